set_option maxRecDepth 100000
/-! WALKS IN THE WIDE WORLD: by program -/
def wp_X1_init (a : Nat) (σ : OS) (Q : OS → Prop) : Prop := (3 ≤ σ.2.2.1 ∧ ∀ q1 : Nat, oFr σ q1 → (σ.2.2.2.1 ≠ 0 → q1 = σ.2.2.2.1) → ∀ σ2 : OS, σ2 = oNew σ q1 3 (.inr (1, [.null, .null, .null, .null, .null, .null, .null, .null, .null, .null, .int 0, .int 0, .int 0, .int 0, .int 0, .int 0, .int 0, .int 0, .int 0, .int 0, .int 0, .int 0])) → wp_X2_init q1 σ2 (fun σ3 => (∃ (y : MS) (L : List Int32), oHouse σ3 q1 y L ∧ ∀ σ4 : OS, σ4 = oFold σ3 q1 y L → (∃ fs6 : List Value, σ4.1 a = some (.inr (0, fs6)) ∧ 0 < fs6.length ∧ ∀ σ5 : OS, σ5 = (oPut σ4 a (.inr (0, fs6.set 0 (.ref q1)))) → (1 ≤ σ5.2.2.1 ∧ ∀ q7 : Nat, oFr σ5 q7 → (σ5.2.2.2.1 ≠ 0 → q7 = σ5.2.2.2.1) → ∀ σ8 : OS, σ8 = oNew σ5 q7 1 (.inr (9, [.null, .int 0, .int 0])) → wp_J2_init q7 σ8 (fun σ9 => (∃ fs11 : List Value, σ9.1 a = some (.inr (0, fs11)) ∧ 2 < fs11.length ∧ ∀ σ10 : OS, σ10 = (oPut σ9 a (.inr (0, fs11.set 2 (.ref q7)))) → (1 ≤ σ10.2.2.1 ∧ ∀ q12 : Nat, oFr σ10 q12 → (σ10.2.2.2.1 ≠ 0 → q12 = σ10.2.2.2.1) → ∀ σ13 : OS, σ13 = oNew σ10 q12 1 (.inr (10, [.null, .int 0, .int 0, .int 0])) → wp_J4_init q12 σ13 (fun σ14 => (∃ fs16 : List Value, σ14.1 a = some (.inr (0, fs16)) ∧ 3 < fs16.length ∧ ∀ σ15 : OS, σ15 = (oPut σ14 a (.inr (0, fs16.set 3 (.ref q12)))) → (Q σ15)))))))))))
theorem sg_X1_init : aSig yX1_init 0 := by decide +kernel
set_option maxHeartbeats 4000000 in
theorem ct_X1_init (l : Launch) (G : aG) (a : Nat) (E : Nat → Prop) (σ : OS) (Q : OS → Prop) (hw : wp_X1_init a σ Q) (h0 : AH) (n0 u0 : Nat) (hB : OB h0 n0 E σ) : CT l yX1_init (ws_ yX1_init cX1_init 1 none) 6 G [.ref a] h0 n0 u0 σ.2.2.1 (10 * σ.2.2.1) (o_pv Q h0 n0 u0 E σ.2.2.1) := by
  refine CT.intro [some (.ref a)] pn_RX1 rfl (Nat.le_of_ble_eq_true rfl) ?_
  intro p e s m args below meth c C hz hu
  have hs : s.heap.size = n0 ∧ slT s.heap = u0 := ⟨hz, hu⟩
  refine a_world (V1 := OW h0 n0 u0 E σ.2.2.1 σ) (OW.start hB) ?_
  unfold wp_X1_init at hw
  refine a_aload_0 (pc := 0) C dX1_init_0 ?_
  refine a_objInit (pc := 1) C q106 q107 q108 (by decide) (Nat.le_of_ble_eq_true rfl) dX1_init_1 ?_
  refine a_aload_0 (pc := 4) C dX1_init_4 ?_
  refine o_newC (pc := 5) C hs 3 in_X2 tyX2 tyX2_ok q109 q110 q66 (ci := 1) (fs := [.null, .null, .null, .null, .null, .null, .null, .null, .null, .null, .int 0, .int 0, .int 0, .int 0, .int 0, .int 0, .int 0, .int 0, .int 0, .int 0, .int 0, .int 0]) rfl (by decide) (fun f z => by cases z) (by decide) (by decide) hw.1 dX1_init_5 (fun q1 frq1 nxq1 σ2 eσ2 => ?_)
  have hw := hw.2 q1 frq1 nxq1 σ2 eσ2
  refine a_dup (pc := 8) C dX1_init_8 rfl ?_
  refine o_callIv (pc := 9) C hs [] (b := q1) (st := [.ref q1, .ref a]) (fun h n u hB => ct_X2_init l G q1 E _ _ hw h n u hB) (by decide) (by decide) q66 q111 q112 rfl (lw_meth q113) sg_X2_init (Nat.le_of_ble_eq_true rfl) dX1_init_9 (fun σ3 hw => ?_)
  obtain ⟨y, L, hH, hw⟩ := hw
  refine a_world (fun h n u hV => hV.fold hH) ?_
  refine o_top (fun σ4 eσ4 => ?_)
  have hw := hw σ4 eσ4
  obtain ⟨fs6, ffs6, kfs6, hw⟩ := hw
  refine a_putf (pc := 12) C (ref := "MaltDrums") (V1 := OW h0 n0 u0 E σ.2.2.1 (oPut σ4 a (.inr (0, fs6.set 0 (.ref q1))))) in_X1 tyX1 tyX1_ok nmX1 (ci := 0) rfl 0 (by decide) q299 rfl rfl rfl rfl (fun h n u hV => o_put (by decide) ffs6 kfs6 hV) dX1_init_12 (o_top (fun σ5 eσ5 => ?_))
  have hw := hw σ5 eσ5
  refine a_aload_0 (pc := 15) C dX1_init_15 ?_
  refine o_newC (pc := 16) C hs 1 in_J2 tyJ2 tyJ2_ok q245 q246 q72 (ci := 9) (fs := [.null, .int 0, .int 0]) rfl (by decide) (fun f z => by cases z) (by decide) (by decide) hw.1 dX1_init_16 (fun q7 frq7 nxq7 σ8 eσ8 => ?_)
  have hw := hw.2 q7 frq7 nxq7 σ8 eσ8
  refine a_dup (pc := 19) C dX1_init_19 rfl ?_
  refine o_callIv (pc := 20) C hs [] (b := q7) (st := [.ref q7, .ref a]) (fun h n u hB => ct_J2_init l G q7 E _ _ hw h n u hB) (by decide) (by decide) q72 q247 q248 rfl (lw_meth q249) sg_J2_init (Nat.le_of_ble_eq_true rfl) dX1_init_20 (fun σ9 hw => ?_)
  obtain ⟨fs11, ffs11, kfs11, hw⟩ := hw
  refine a_putfF (pc := 23) C (ref := "MaltDrums") (V1 := OW h0 n0 u0 E σ.2.2.1 (oPut σ9 a (.inr (0, fs11.set 2 (.ref q7))))) in_X1 tyX1 tyX1_ok nmX1 (ci := 0) rfl 2 (by decide) q301 rfl rfl rfl rfl rfl rfl (fun h n u hV => o_put (by decide) ffs11 kfs11 hV) dX1_init_23 (o_top (fun σ10 eσ10 => ?_))
  have hw := hw σ10 eσ10
  refine a_aload_0 (pc := 26) C dX1_init_26 ?_
  refine o_newC (pc := 27) C hs 1 in_J4 tyJ4 tyJ4_ok q266 q267 q74 (ci := 10) (fs := [.null, .int 0, .int 0, .int 0]) rfl (by decide) (fun f z => by cases z) (by decide) (by decide) hw.1 dX1_init_27 (fun q12 frq12 nxq12 σ13 eσ13 => ?_)
  have hw := hw.2 q12 frq12 nxq12 σ13 eσ13
  refine a_dup (pc := 30) C dX1_init_30 rfl ?_
  refine o_callIv (pc := 31) C hs [] (b := q12) (st := [.ref q12, .ref a]) (fun h n u hB => ct_J4_init l G q12 E _ _ hw h n u hB) (by decide) (by decide) q74 q268 q269 rfl (lw_meth q270) sg_J4_init (Nat.le_of_ble_eq_true rfl) dX1_init_31 (fun σ14 hw => ?_)
  obtain ⟨fs16, ffs16, kfs16, hw⟩ := hw
  refine a_putfF (pc := 34) C (ref := "MaltDrums") (V1 := OW h0 n0 u0 E σ.2.2.1 (oPut σ14 a (.inr (0, fs16.set 3 (.ref q12))))) in_X1 tyX1 tyX1_ok nmX1 (ci := 0) rfl 3 (by decide) q303 rfl rfl rfl rfl rfl rfl (fun h n u hV => o_put (by decide) ffs16 kfs16 hV) dX1_init_34 (o_top (fun σ15 eσ15 => ?_))
  have hw := hw σ15 eσ15
  exact a_vret C dX1_init_37 (fun h n u hV => ⟨⟨_, rfl, hw, hV⟩, o_end hs hV⟩)
def wp_X1_clearText (a : Nat) (σ : OS) (Q : Int32 → OS → Prop) : Prop := (∃ r1 : Nat, oF σ a 0 3 (.ref r1) ∧ (oC σ r1 10 ∧ wp_J4_length r1 σ (fun v3 σ2 => (∃ r4 : Nat, oF σ2 a 0 3 (.ref r4) ∧ (oC σ2 r4 10 ∧ wp_J4_setLength r4 0 σ2 (fun σ5 => (Q v3 σ5)))))))
theorem sg_X1_clearText : aSig yX1_clearText 0 := by decide +kernel
set_option maxHeartbeats 4000000 in
theorem ct_X1_clearText (l : Launch) (G : aG) (a : Nat) (E : Nat → Prop) (σ : OS) (Q : Int32 → OS → Prop) (hw : wp_X1_clearText a σ Q) (h0 : AH) (n0 u0 : Nat) (hB : OB h0 n0 E σ) : CT l yX1_clearText (ws_ yX1_clearText cX1_clearText 2 (some .int)) 7 G [.ref a] h0 n0 u0 σ.2.2.1 (10 * σ.2.2.1) (o_pi Q h0 n0 u0 E σ.2.2.1) := by
  refine CT.intro [some (.ref a), none] pn_RX1 rfl (Nat.le_of_ble_eq_true rfl) ?_
  intro p e s m args below meth c C hz hu
  have hs : s.heap.size = n0 ∧ slT s.heap = u0 := ⟨hz, hu⟩
  refine a_world (V1 := OW h0 n0 u0 E σ.2.2.1 σ) (OW.start hB) ?_
  unfold wp_X1_clearText at hw
  refine a_aload_0 (pc := 0) C dX1_clearText_0 ?_
  obtain ⟨r1, fr1, hw⟩ := hw
  refine a_getf (pc := 1) C (ref := "MaltDrums") in_X1 (ci := 0) rfl 3 (by decide) q303 rfl (fun h n u hV => o_fld fr1 hV) dX1_clearText_1 ?_
  refine o_callVi (pc := 4) C hs [] (b := r1) (ci := 10) (st := []) (fun h n u hB => ct_J4_length l G r1 E _ _ hw.2 h n u hB) (by decide) (by decide) rfl hw.1 q74 q317 q318 q319 (lw_meth q320) sg_J4_length (Nat.le_of_ble_eq_true rfl) dX1_clearText_4 (fun v3 σ2 hw => ?_)
  refine a_istore_1 (pc := 7) C dX1_clearText_7 (by decide) rfl ?_
  refine a_aload_0 (pc := 8) C dX1_clearText_8 ?_
  obtain ⟨r4, fr4, hw⟩ := hw
  refine a_getf (pc := 9) C (ref := "MaltDrums") in_X1 (ci := 0) rfl 3 (by decide) q303 rfl (fun h n u hV => o_fld fr4 hV) dX1_clearText_9 ?_
  refine a_iconst (pc := 12) C dX1_clearText_12 ic_0 ?_
  refine o_callVv (pc := 13) C hs [.int 0] (b := r4) (ci := 10) (st := []) (fun h n u hB => ct_J4_setLength l G r4 _ E _ _ hw.2 h n u hB) (by decide) (by decide) rfl hw.1 q74 q324 q325 q326 (lw_meth q327) sg_J4_setLength (Nat.le_of_ble_eq_true rfl) dX1_clearText_13 (fun σ5 hw => ?_)
  refine a_iload_1 (pc := 16) C dX1_clearText_16 ?_
  exact a_iret C dX1_clearText_17 (fun h n u hV => ⟨⟨(_, _), rfl, hw, hV⟩, o_end hs hV⟩)
def wp_X1_savedStates (a : Nat) (σ : OS) (Q : Int32 → OS → Prop) : Prop := (∃ r1 : Nat, oF σ a 0 2 (.ref r1) ∧ (oC σ r1 9 ∧ wp_J2_size r1 σ (fun v3 σ2 => (Q v3 σ2))))
theorem sg_X1_savedStates : aSig yX1_savedStates 0 := by decide +kernel
set_option maxHeartbeats 4000000 in
theorem ct_X1_savedStates (l : Launch) (G : aG) (a : Nat) (E : Nat → Prop) (σ : OS) (Q : Int32 → OS → Prop) (hw : wp_X1_savedStates a σ Q) (h0 : AH) (n0 u0 : Nat) (hB : OB h0 n0 E σ) : CT l yX1_savedStates (ws_ yX1_savedStates cX1_savedStates 1 (some .int)) 3 G [.ref a] h0 n0 u0 σ.2.2.1 (10 * σ.2.2.1) (o_pi Q h0 n0 u0 E σ.2.2.1) := by
  refine CT.intro [some (.ref a)] pn_RX1 rfl (Nat.le_of_ble_eq_true rfl) ?_
  intro p e s m args below meth c C hz hu
  have hs : s.heap.size = n0 ∧ slT s.heap = u0 := ⟨hz, hu⟩
  refine a_world (V1 := OW h0 n0 u0 E σ.2.2.1 σ) (OW.start hB) ?_
  unfold wp_X1_savedStates at hw
  refine a_aload_0 (pc := 0) C dX1_savedStates_0 ?_
  obtain ⟨r1, fr1, hw⟩ := hw
  refine a_getf (pc := 1) C (ref := "MaltDrums") in_X1 (ci := 0) rfl 2 (by decide) q301 rfl (fun h n u hV => o_fld fr1 hV) dX1_savedStates_1 ?_
  refine o_callVi (pc := 4) C hs [] (b := r1) (ci := 9) (st := []) (fun h n u hB => ct_J2_size l G r1 E _ _ hw.2 h n u hB) (by decide) (by decide) rfl hw.1 q72 q960 q961 q962 (lw_meth q963) sg_J2_size (Nat.le_of_ble_eq_true rfl) dX1_savedStates_4 (fun v3 σ2 hw => ?_)
  exact a_iret C dX1_savedStates_7 (fun h n u hV => ⟨⟨(_, _), rfl, hw, hV⟩, o_end hs hV⟩)
def wp_X1_keep (a : Nat) (σ : OS) (Q : Int32 → OS → Prop) : Prop := (3 ≤ σ.2.2.1 ∧ ∀ q1 : Nat, oFr σ q1 → (σ.2.2.2.1 ≠ 0 → q1 = σ.2.2.2.1) → ∀ σ2 : OS, σ2 = oNew σ q1 3 (.inr (1, [.null, .null, .null, .null, .null, .null, .null, .null, .null, .null, .int 0, .int 0, .int 0, .int 0, .int 0, .int 0, .int 0, .int 0, .int 0, .int 0, .int 0, .int 0])) → (∃ r3 : Nat, oF σ2 a 0 0 (.ref r3) ∧ wp_X2_init_2 q1 r3 σ2 (fun σ4 => (∃ (y : MS) (L : List Int32), oHouse σ4 q1 y L ∧ ∀ σ5 : OS, σ5 = oFold σ4 q1 y L → (∃ fs7 : List Value, σ5.1 a = some (.inr (0, fs7)) ∧ 1 < fs7.length ∧ ∀ σ6 : OS, σ6 = (oPut σ5 a (.inr (0, fs7.set 1 (.ref q1)))) → (∃ r8 : Nat, oF σ6 a 0 0 (.ref r8) ∧ (∃ w9 : MS × List Int32, σ6.2.1 r8 = some w9 ∧ (Q (w9.1 11 2) σ6))))))))
theorem sg_X1_keep : aSig yX1_keep 0 := by decide +kernel
set_option maxHeartbeats 4000000 in
theorem ct_X1_keep (l : Launch) (G : aG) (a : Nat) (E : Nat → Prop) (σ : OS) (Q : Int32 → OS → Prop) (hw : wp_X1_keep a σ Q) (h0 : AH) (n0 u0 : Nat) (hB : OB h0 n0 E σ) : CT l yX1_keep (ws_ yX1_keep cX1_keep 1 (some .int)) 6 G [.ref a] h0 n0 u0 σ.2.2.1 (10 * σ.2.2.1) (o_pi Q h0 n0 u0 E σ.2.2.1) := by
  refine CT.intro [some (.ref a)] pn_RX1 rfl (Nat.le_of_ble_eq_true rfl) ?_
  intro p e s m args below meth c C hz hu
  have hs : s.heap.size = n0 ∧ slT s.heap = u0 := ⟨hz, hu⟩
  refine a_world (V1 := OW h0 n0 u0 E σ.2.2.1 σ) (OW.start hB) ?_
  unfold wp_X1_keep at hw
  refine a_aload_0 (pc := 0) C dX1_keep_0 ?_
  refine o_newC (pc := 1) C hs 3 in_X2 tyX2 tyX2_ok q109 q110 q66 (ci := 1) (fs := [.null, .null, .null, .null, .null, .null, .null, .null, .null, .null, .int 0, .int 0, .int 0, .int 0, .int 0, .int 0, .int 0, .int 0, .int 0, .int 0, .int 0, .int 0]) rfl (by decide) (fun f z => by cases z) (by decide) (by decide) hw.1 dX1_keep_1 (fun q1 frq1 nxq1 σ2 eσ2 => ?_)
  have hw := hw.2 q1 frq1 nxq1 σ2 eσ2
  refine a_dup (pc := 4) C dX1_keep_4 rfl ?_
  refine a_aload_0 (pc := 5) C dX1_keep_5 ?_
  obtain ⟨r3, fr3, hw⟩ := hw
  refine a_getf (pc := 6) C (ref := "MaltDrums") in_X1 (ci := 0) rfl 0 (by decide) q299 rfl (fun h n u hV => o_fld fr3 hV) dX1_keep_6 ?_
  refine o_callIv (pc := 9) C hs [.ref r3] (b := q1) (st := [.ref q1, .ref a]) (fun h n u hB => ct_X2_init_2 l G q1 _ E _ _ hw h n u hB) (by decide) (by decide) q66 q971 q972 rfl (lw_meth q973) sg_X2_init_2 (Nat.le_of_ble_eq_true rfl) dX1_keep_9 (fun σ4 hw => ?_)
  obtain ⟨y, L, hH, hw⟩ := hw
  refine a_world (fun h n u hV => hV.fold hH) ?_
  refine o_top (fun σ5 eσ5 => ?_)
  have hw := hw σ5 eσ5
  obtain ⟨fs7, ffs7, kfs7, hw⟩ := hw
  refine a_putf (pc := 12) C (ref := "MaltDrums") (V1 := OW h0 n0 u0 E σ.2.2.1 (oPut σ5 a (.inr (0, fs7.set 1 (.ref q1))))) in_X1 tyX1 tyX1_ok nmX1 (ci := 0) rfl 1 (by decide) q300 rfl rfl rfl rfl (fun h n u hV => o_put (by decide) ffs7 kfs7 hV) dX1_keep_12 (o_top (fun σ6 eσ6 => ?_))
  have hw := hw σ6 eσ6
  refine a_aload_0 (pc := 15) C dX1_keep_15 ?_
  obtain ⟨r8, fr8, hw⟩ := hw
  refine a_getf (pc := 16) C (ref := "MaltDrums") in_X1 (ci := 0) rfl 0 (by decide) q299 rfl (fun h n u hV => o_fld fr8 hV) dX1_keep_16 ?_
  obtain ⟨w9, yw9, hw⟩ := hw
  refine a_getfN (pc := 19) C (ref := "MaltDrums$House") (v := .int (w9.1 11 2)) in_X2 (ci := 1) rfl 12 (by decide) q181 rfl (fun h n u hV => o_hfld yw9 (fun _ => rfl) hV) dX1_keep_19 ?_
  exact a_iret C dX1_keep_22 (fun h n u hV => ⟨⟨(_, _), rfl, hw, hV⟩, o_end hs hV⟩)
def wp_X1_lots (a : Nat) (σ : OS) (Q : Int32 → OS → Prop) : Prop := (∃ r1 : Nat, oF σ a 0 0 (.ref r1) ∧ (∃ w2 : MS × List Int32, σ.2.1 r1 = some w2 ∧ (Q (w2.1 11 1) σ)))
theorem sg_X1_lots : aSig yX1_lots 0 := by decide +kernel
set_option maxHeartbeats 4000000 in
theorem ct_X1_lots (l : Launch) (G : aG) (a : Nat) (E : Nat → Prop) (σ : OS) (Q : Int32 → OS → Prop) (hw : wp_X1_lots a σ Q) (h0 : AH) (n0 u0 : Nat) (hB : OB h0 n0 E σ) : CT l yX1_lots (ws_ yX1_lots cX1_lots 1 (some .int)) 1 G [.ref a] h0 n0 u0 σ.2.2.1 (10 * σ.2.2.1) (o_pi Q h0 n0 u0 E σ.2.2.1) := by
  refine CT.intro [some (.ref a)] pn_RX1 rfl (Nat.le_of_ble_eq_true rfl) ?_
  intro p e s m args below meth c C hz hu
  have hs : s.heap.size = n0 ∧ slT s.heap = u0 := ⟨hz, hu⟩
  refine a_world (V1 := OW h0 n0 u0 E σ.2.2.1 σ) (OW.start hB) ?_
  unfold wp_X1_lots at hw
  refine a_aload_0 (pc := 0) C dX1_lots_0 ?_
  obtain ⟨r1, fr1, hw⟩ := hw
  refine a_getf (pc := 1) C (ref := "MaltDrums") in_X1 (ci := 0) rfl 0 (by decide) q299 rfl (fun h n u hV => o_fld fr1 hV) dX1_lots_1 ?_
  obtain ⟨w2, yw2, hw⟩ := hw
  refine a_getfN (pc := 4) C (ref := "MaltDrums$House") (v := .int (w2.1 11 1)) in_X2 (ci := 1) rfl 11 (by decide) q179 rfl (fun h n u hV => o_hfld yw2 (fun _ => rfl) hV) dX1_lots_4 ?_
  exact a_iret C dX1_lots_7 (fun h n u hV => ⟨⟨(_, _), rfl, hw, hV⟩, o_end hs hV⟩)
def wp_X1_isLit (a : Nat) (σ : OS) (Q : Int32 → OS → Prop) : Prop := (∃ r1 : Nat, oF σ a 0 0 (.ref r1) ∧ (∃ w2 : MS × List Int32, σ.2.1 r1 = some w2 ∧ (((w2.1 11 3) = 0 ∨ (w2.1 11 3) = 1) ∧ (Q (w2.1 11 3) σ))))
theorem sg_X1_isLit : aSig yX1_isLit 0 := by decide +kernel
set_option maxHeartbeats 4000000 in
theorem ct_X1_isLit (l : Launch) (G : aG) (a : Nat) (E : Nat → Prop) (σ : OS) (Q : Int32 → OS → Prop) (hw : wp_X1_isLit a σ Q) (h0 : AH) (n0 u0 : Nat) (hB : OB h0 n0 E σ) : CT l yX1_isLit (ws_ yX1_isLit cX1_isLit 1 (some .boolean)) 1 G [.ref a] h0 n0 u0 σ.2.2.1 (10 * σ.2.2.1) (o_pi Q h0 n0 u0 E σ.2.2.1) := by
  refine CT.intro [some (.ref a)] pn_RX1 rfl (Nat.le_of_ble_eq_true rfl) ?_
  intro p e s m args below meth c C hz hu
  have hs : s.heap.size = n0 ∧ slT s.heap = u0 := ⟨hz, hu⟩
  refine a_world (V1 := OW h0 n0 u0 E σ.2.2.1 σ) (OW.start hB) ?_
  unfold wp_X1_isLit at hw
  refine a_aload_0 (pc := 0) C dX1_isLit_0 ?_
  obtain ⟨r1, fr1, hw⟩ := hw
  refine a_getf (pc := 1) C (ref := "MaltDrums") in_X1 (ci := 0) rfl 0 (by decide) q299 rfl (fun h n u hV => o_fld fr1 hV) dX1_isLit_1 ?_
  obtain ⟨w2, yw2, hw⟩ := hw
  refine a_getfN (pc := 4) C (ref := "MaltDrums$House") (v := .int (w2.1 11 3)) in_X2 (ci := 1) rfl 13 (by decide) q183 rfl (fun h n u hV => o_hfld yw2 (fun _ => rfl) hV) dX1_isLit_4 ?_
  have hz := hw.1
  have hw := hw.2
  exact a_zret (narrow_bool hz) C dX1_isLit_7 (fun h n u hV => ⟨⟨(_, _), rfl, hw, hV⟩, o_end hs hV⟩)
def wp_X1_litFor (a : Nat) (σ : OS) (Q : Int32 → OS → Prop) : Prop := (∃ r1 : Nat, oF σ a 0 0 (.ref r1) ∧ (∃ w2 : MS × List Int32, σ.2.1 r1 = some w2 ∧ (Q (w2.1 11 4) σ)))
theorem sg_X1_litFor : aSig yX1_litFor 0 := by decide +kernel
set_option maxHeartbeats 4000000 in
theorem ct_X1_litFor (l : Launch) (G : aG) (a : Nat) (E : Nat → Prop) (σ : OS) (Q : Int32 → OS → Prop) (hw : wp_X1_litFor a σ Q) (h0 : AH) (n0 u0 : Nat) (hB : OB h0 n0 E σ) : CT l yX1_litFor (ws_ yX1_litFor cX1_litFor 1 (some .int)) 1 G [.ref a] h0 n0 u0 σ.2.2.1 (10 * σ.2.2.1) (o_pi Q h0 n0 u0 E σ.2.2.1) := by
  refine CT.intro [some (.ref a)] pn_RX1 rfl (Nat.le_of_ble_eq_true rfl) ?_
  intro p e s m args below meth c C hz hu
  have hs : s.heap.size = n0 ∧ slT s.heap = u0 := ⟨hz, hu⟩
  refine a_world (V1 := OW h0 n0 u0 E σ.2.2.1 σ) (OW.start hB) ?_
  unfold wp_X1_litFor at hw
  refine a_aload_0 (pc := 0) C dX1_litFor_0 ?_
  obtain ⟨r1, fr1, hw⟩ := hw
  refine a_getf (pc := 1) C (ref := "MaltDrums") in_X1 (ci := 0) rfl 0 (by decide) q299 rfl (fun h n u hV => o_fld fr1 hV) dX1_litFor_1 ?_
  obtain ⟨w2, yw2, hw⟩ := hw
  refine a_getfN (pc := 4) C (ref := "MaltDrums$House") (v := .int (w2.1 11 4)) in_X2 (ci := 1) rfl 14 (by decide) q185 rfl (fun h n u hV => o_hfld yw2 (fun _ => rfl) hV) dX1_litFor_4 ?_
  exact a_iret C dX1_litFor_7 (fun h n u hV => ⟨⟨(_, _), rfl, hw, hV⟩, o_end hs hV⟩)
def wp_X1_charge (a : Nat) (σ : OS) (Q : Int32 → OS → Prop) : Prop := (∃ r1 : Nat, oF σ a 0 0 (.ref r1) ∧ (∃ w2 : MS × List Int32, σ.2.1 r1 = some w2 ∧ wp_X2_weightIn 4 (w2.1, w2.2, σ.2.2.1) (fun v5 s3 => ∀ σ4 : OS, σ4 = oHc σ r1 s3 → (Q v5 σ4))))
theorem sg_X1_charge : aSig yX1_charge 0 := by decide +kernel
set_option maxHeartbeats 4000000 in
theorem ct_X1_charge (l : Launch) (G : aG) (a : Nat) (E : Nat → Prop) (σ : OS) (Q : Int32 → OS → Prop) (hw : wp_X1_charge a σ Q) (h0 : AH) (n0 u0 : Nat) (hB : OB h0 n0 E σ) : CT l yX1_charge (ws_ yX1_charge cX1_charge 1 (some .int)) 3 G [.ref a] h0 n0 u0 σ.2.2.1 (10 * σ.2.2.1) (o_pi Q h0 n0 u0 E σ.2.2.1) := by
  refine CT.intro [some (.ref a)] pn_RX1 rfl (Nat.le_of_ble_eq_true rfl) ?_
  intro p e s m args below meth c C hz hu
  have hs : s.heap.size = n0 ∧ slT s.heap = u0 := ⟨hz, hu⟩
  refine a_world (V1 := OW h0 n0 u0 E σ.2.2.1 σ) (OW.start hB) ?_
  unfold wp_X1_charge at hw
  refine a_aload_0 (pc := 0) C dX1_charge_0 ?_
  obtain ⟨r1, fr1, hw⟩ := hw
  refine a_getf (pc := 1) C (ref := "MaltDrums") in_X1 (ci := 0) rfl 0 (by decide) q299 rfl (fun h n u hV => o_fld fr1 hV) dX1_charge_1 ?_
  refine a_iconst (pc := 4) C dX1_charge_4 ic_4 ?_
  obtain ⟨w2, yw2, hw⟩ := hw
  refine o_callHi (pc := 5) C hs [.int 4] (st := []) yw2 (fun h n u hV => ct_X2_weightIn l G _ _ _ _ hw h n u hV) (by decide) (by decide) q66 q993 q994 q995 (lw_meth q996) sg_X2_weightIn (Nat.le_of_ble_eq_true rfl) dX1_charge_5 (fun v5 s3 hw => o_top (fun σ4 eσ4 => ?_))
  have hw := hw σ4 eσ4
  exact a_iret C dX1_charge_8 (fun h n u hV => ⟨⟨(_, _), rfl, hw, hV⟩, o_end hs hV⟩)
def wp_X1_spraysLeft (a : Nat) (σ : OS) (Q : Int32 → OS → Prop) : Prop := (∃ r1 : Nat, oF σ a 0 0 (.ref r1) ∧ (∃ w2 : MS × List Int32, σ.2.1 r1 = some w2 ∧ (Q (w2.1 11 8) σ)))
theorem sg_X1_spraysLeft : aSig yX1_spraysLeft 0 := by decide +kernel
set_option maxHeartbeats 4000000 in
theorem ct_X1_spraysLeft (l : Launch) (G : aG) (a : Nat) (E : Nat → Prop) (σ : OS) (Q : Int32 → OS → Prop) (hw : wp_X1_spraysLeft a σ Q) (h0 : AH) (n0 u0 : Nat) (hB : OB h0 n0 E σ) : CT l yX1_spraysLeft (ws_ yX1_spraysLeft cX1_spraysLeft 1 (some .int)) 1 G [.ref a] h0 n0 u0 σ.2.2.1 (10 * σ.2.2.1) (o_pi Q h0 n0 u0 E σ.2.2.1) := by
  refine CT.intro [some (.ref a)] pn_RX1 rfl (Nat.le_of_ble_eq_true rfl) ?_
  intro p e s m args below meth c C hz hu
  have hs : s.heap.size = n0 ∧ slT s.heap = u0 := ⟨hz, hu⟩
  refine a_world (V1 := OW h0 n0 u0 E σ.2.2.1 σ) (OW.start hB) ?_
  unfold wp_X1_spraysLeft at hw
  refine a_aload_0 (pc := 0) C dX1_spraysLeft_0 ?_
  obtain ⟨r1, fr1, hw⟩ := hw
  refine a_getf (pc := 1) C (ref := "MaltDrums") in_X1 (ci := 0) rfl 0 (by decide) q299 rfl (fun h n u hV => o_fld fr1 hV) dX1_spraysLeft_1 ?_
  obtain ⟨w2, yw2, hw⟩ := hw
  refine a_getfN (pc := 4) C (ref := "MaltDrums$House") (v := .int (w2.1 11 8)) in_X2 (ci := 1) rfl 18 (by decide) q193 rfl (fun h n u hV => o_hfld yw2 (fun _ => rfl) hV) dX1_spraysLeft_4 ?_
  exact a_iret C dX1_spraysLeft_7 (fun h n u hV => ⟨⟨(_, _), rfl, hw, hV⟩, o_end hs hV⟩)
def wp_X1_dryByFormula_L4 (kx3 : Int32 → Int32 → Prop) (σ : OS) (a : Nat) : Nat → Int32 → Int32 → Prop
  | 0, _, _ => False
  | F + 1, x1, x2 => (∃ r20 : Nat, oF σ a 0 0 (.ref r20) ∧ (∃ w21 : MS × List Int32, σ.2.1 r20 = some w21 ∧ ((((w21.1 11 1) ≤ x2) → (kx3 x1 x2)) ∧ ((¬ (w21.1 11 1) ≤ x2) → (∃ r23 : Nat, oF σ a 0 0 (.ref r23) ∧ (∃ w24 : MS × List Int32, σ.2.1 r23 = some w24 ∧ (∃ w25 : MS × List Int32, σ.2.1 r23 = some w25 ∧ vp_in x2 12 ∧ (jn (fun (x28 : Int32) => (wp_X1_dryByFormula_L4 kx3 σ a F x28 (x2 + 1))) (fun kj27 => (((¬ (w25.1 6 x2.toNatClampNeg) = 4) → (kj27 x1)) ∧ (((w25.1 6 x2.toNatClampNeg) = 4) → (∃ r29 : Nat, oF σ a 0 0 (.ref r29) ∧ (∃ w30 : MS × List Int32, σ.2.1 r29 = some w30 ∧ (∃ w31 : MS × List Int32, σ.2.1 r29 = some w31 ∧ vp_in x2 12 ∧ (∀ v32 : Int32, v32 = iMax x1 (w31.1 2 x2.toNatClampNeg) → (kj27 v32))))))))))))))))
def wp_X1_dryByFormula (a : Nat) (σ : OS) (Q : Int32 → OS → Prop) : Prop := (jn (fun (x4 : Int32) (x5 : Int32) => (∃ r6 : Nat, oF σ a 0 0 (.ref r6) ∧ (∃ w7 : MS × List Int32, σ.2.1 r6 = some w7 ∧ (∀ v8 : Int32, v8 = iMax 0 (10 - (w7.1 11 4)) → (∃ r9 : Nat, oF σ a 0 0 (.ref r9) ∧ (∃ w10 : MS × List Int32, σ.2.1 r9 = some w10 ∧ (wp_X1_hoursFor (x4 - 4) ((w10.1 11 5) / 20) (fun v11 => (∀ v12 : Int32, v12 = iMin v8 v11 → (∃ r13 : Nat, oF σ a 0 0 (.ref r13) ∧ (∃ w14 : MS × List Int32, σ.2.1 r13 = some w14 ∧ (∀ x15 : Int32, x15 = (x4 - (v12 * ((w14.1 11 5) / 20))) - 4 → (∃ r16 : Nat, oF σ a 0 0 (.ref r16) ∧ (∃ w17 : MS × List Int32, σ.2.1 r16 = some w17 ∧ (wp_X1_hoursFor x15 ((w17.1 11 6) / 20) (fun v18 => (∀ v19 : Int32, v19 = iMax 1 (v12 + v18) → (Q v19 σ)))))))))))))))))) (fun kx3 => wp_X1_dryByFormula_L4 kx3 σ a mF 0 0))
theorem sg_X1_dryByFormula : aSig yX1_dryByFormula 0 := by decide +kernel
set_option maxHeartbeats 4000000 in
theorem ct_X1_dryByFormula (l : Launch) (G : aG) (a : Nat) (E : Nat → Prop) (σ : OS) (Q : Int32 → OS → Prop) (hw : wp_X1_dryByFormula a σ Q) (h0 : AH) (n0 u0 : Nat) (hB : OB h0 n0 E σ) : CT l yX1_dryByFormula (ws_ yX1_dryByFormula cX1_dryByFormula 5 (some .int)) 2 G [.ref a] h0 n0 u0 σ.2.2.1 (10 * σ.2.2.1) (o_pi Q h0 n0 u0 E σ.2.2.1) := by
  refine CT.intro [some (.ref a), none, none, none, none] pn_RX1 rfl (Nat.le_of_ble_eq_true rfl) ?_
  intro p e s m args below meth c C hz hu
  have hs : s.heap.size = n0 ∧ slT s.heap = u0 := ⟨hz, hu⟩
  refine a_world (V1 := OW h0 n0 u0 E σ.2.2.1 σ) (OW.start hB) ?_
  unfold wp_X1_dryByFormula at hw
  refine a_iconst (pc := 0) C dX1_dryByFormula_0 ic_0 ?_
  refine a_istore_1 (pc := 1) C dX1_dryByFormula_1 (by decide) rfl ?_
  refine a_iconst (pc := 2) C dX1_dryByFormula_2 ic_0 ?_
  refine a_istore_2 (pc := 3) C dX1_dryByFormula_3 (by decide) rfl ?_
  refine jn_use hw (fun kx3 ekx3 hw => ?_)
  have hkx3 : ∀ (x4 : Int32) (x5 : Int32), kx3 x4 x5 → AW G p l e (aRm 2 σ.2.2.1 (10 * σ.2.2.1)) s m args below meth c (a_A h0 n0) 5 (MQ below (a_Qc G (o_pi Q h0 n0 u0 E σ.2.2.1) (a_A h0 n0)) args s σ.2.2.1 (10 * σ.2.2.1) (a_A h0 n0)) (OW h0 n0 u0 E σ.2.2.1 σ) 52 [some (.ref a), some (.int x4), some (.int x5), none, none] [] := by
    intro x4 x5 hw
    rw [ekx3] at hw
    refine a_iconst (pc := 52) C dX1_dryByFormula_52 ic_0 ?_
    refine a_bipush (pc := 53) C dX1_dryByFormula_53 bc_10 ?_
    refine a_aload_0 (pc := 55) C dX1_dryByFormula_55 ?_
    obtain ⟨r6, fr6, hw⟩ := hw
    refine a_getf (pc := 56) C (ref := "MaltDrums") in_X1 (ci := 0) rfl 0 (by decide) q299 rfl (fun h n u hV => o_fld fr6 hV) dX1_dryByFormula_56 ?_
    obtain ⟨w7, yw7, hw⟩ := hw
    refine a_getfN (pc := 59) C (ref := "MaltDrums$House") (v := .int (w7.1 11 4)) in_X2 (ci := 1) rfl 14 (by decide) q185 rfl (fun h n u hV => o_hfld yw7 (fun _ => rfl) hV) dX1_dryByFormula_59 ?_
    refine a_isub (pc := 62) C dX1_dryByFormula_62 ?_
    refine a_mmax (pc := 63) C (MC := σ.2.2.1) (MS := 10 * σ.2.2.1) (by decide) (fun h n u hV => o_end hs hV) q1017 (Nat.le_of_ble_eq_true rfl) dX1_dryByFormula_63 (a_topi (fun v8 ev8 => ?_))
    have hw := hw v8 ev8
    refine a_istore_2 (pc := 66) C dX1_dryByFormula_66 (by decide) rfl ?_
    refine a_iload_2 (pc := 67) C dX1_dryByFormula_67 ?_
    refine a_iload_1 (pc := 68) C dX1_dryByFormula_68 ?_
    refine a_iconst (pc := 69) C dX1_dryByFormula_69 ic_4 ?_
    refine a_isub (pc := 70) C dX1_dryByFormula_70 ?_
    refine a_aload_0 (pc := 71) C dX1_dryByFormula_71 ?_
    obtain ⟨r9, fr9, hw⟩ := hw
    refine a_getf (pc := 72) C (ref := "MaltDrums") in_X1 (ci := 0) rfl 0 (by decide) q299 rfl (fun h n u hV => o_fld fr9 hV) dX1_dryByFormula_72 ?_
    obtain ⟨w10, yw10, hw⟩ := hw
    refine a_getfN (pc := 75) C (ref := "MaltDrums$House") (v := .int (w10.1 11 5)) in_X2 (ci := 1) rfl 15 (by decide) q187 rfl (fun h n u hV => o_hfld yw10 (fun _ => rfl) hV) dX1_dryByFormula_75 ?_
    refine a_bipush (pc := 78) C dX1_dryByFormula_78 bc_20 ?_
    refine a_idiv (pc := 80) C dX1_dryByFormula_80 (by decide) ?_
    refine o_callSp (pc := 81) C hs [.int (x4 - 4), .int ((w10.1 11 5) / 20)] (st := [.int v8]) (fun h n u => ct_X1_hoursFor l G _ _ _ hw h n u) (by decide) (by decide) (lw_S q1018 q1019 q65 q1020) sg_X1_hoursFor (Nat.le_of_ble_eq_true rfl) dX1_dryByFormula_81 (fun v11 hw => ?_)
    refine a_mmin (pc := 84) C (MC := σ.2.2.1) (MS := 10 * σ.2.2.1) (by decide) (fun h n u hV => o_end hs hV) q1021 (Nat.le_of_ble_eq_true rfl) dX1_dryByFormula_84 (a_topi (fun v12 ev12 => ?_))
    have hw := hw v12 ev12
    refine a_istore_3 (pc := 87) C dX1_dryByFormula_87 (by decide) rfl ?_
    refine a_iload_1 (pc := 88) C dX1_dryByFormula_88 ?_
    refine a_iload_3 (pc := 89) C dX1_dryByFormula_89 ?_
    refine a_aload_0 (pc := 90) C dX1_dryByFormula_90 ?_
    obtain ⟨r13, fr13, hw⟩ := hw
    refine a_getf (pc := 91) C (ref := "MaltDrums") in_X1 (ci := 0) rfl 0 (by decide) q299 rfl (fun h n u hV => o_fld fr13 hV) dX1_dryByFormula_91 ?_
    obtain ⟨w14, yw14, hw⟩ := hw
    refine a_getfN (pc := 94) C (ref := "MaltDrums$House") (v := .int (w14.1 11 5)) in_X2 (ci := 1) rfl 15 (by decide) q187 rfl (fun h n u hV => o_hfld yw14 (fun _ => rfl) hV) dX1_dryByFormula_94 ?_
    refine a_bipush (pc := 97) C dX1_dryByFormula_97 bc_20 ?_
    refine a_idiv (pc := 99) C dX1_dryByFormula_99 (by decide) ?_
    refine a_imul (pc := 100) C dX1_dryByFormula_100 ?_
    refine a_isub (pc := 101) C dX1_dryByFormula_101 ?_
    refine a_iconst (pc := 102) C dX1_dryByFormula_102 ic_4 ?_
    refine a_isub (pc := 103) C dX1_dryByFormula_103 ?_
    refine a_topi (fun x15 ex15 => ?_)
    have hw := hw x15 ex15
    refine a_istore_4 (pc := 104) C dX1_dryByFormula_104 (by decide) rfl ?_
    refine a_iconst (pc := 106) C dX1_dryByFormula_106 ic_1 ?_
    refine a_iload_3 (pc := 107) C dX1_dryByFormula_107 ?_
    refine a_iload_4 (pc := 108) C dX1_dryByFormula_108 ?_
    refine a_aload_0 (pc := 110) C dX1_dryByFormula_110 ?_
    obtain ⟨r16, fr16, hw⟩ := hw
    refine a_getf (pc := 111) C (ref := "MaltDrums") in_X1 (ci := 0) rfl 0 (by decide) q299 rfl (fun h n u hV => o_fld fr16 hV) dX1_dryByFormula_111 ?_
    obtain ⟨w17, yw17, hw⟩ := hw
    refine a_getfN (pc := 114) C (ref := "MaltDrums$House") (v := .int (w17.1 11 6)) in_X2 (ci := 1) rfl 16 (by decide) q189 rfl (fun h n u hV => o_hfld yw17 (fun _ => rfl) hV) dX1_dryByFormula_114 ?_
    refine a_bipush (pc := 117) C dX1_dryByFormula_117 bc_20 ?_
    refine a_idiv (pc := 119) C dX1_dryByFormula_119 (by decide) ?_
    refine o_callSp (pc := 120) C hs [.int x15, .int ((w17.1 11 6) / 20)] (st := [.int v12, .int 1]) (fun h n u => ct_X1_hoursFor l G _ _ _ hw h n u) (by decide) (by decide) (lw_S q1018 q1019 q65 q1020) sg_X1_hoursFor (Nat.le_of_ble_eq_true rfl) dX1_dryByFormula_120 (fun v18 hw => ?_)
    refine a_iadd (pc := 123) C dX1_dryByFormula_123 ?_
    refine a_mmax (pc := 124) C (MC := σ.2.2.1) (MS := 10 * σ.2.2.1) (by decide) (fun h n u hV => o_end hs hV) q1017 (Nat.le_of_ble_eq_true rfl) dX1_dryByFormula_124 (a_topi (fun v19 ev19 => ?_))
    have hw := hw v19 ev19
    exact a_iret C dX1_dryByFormula_127 (fun h n u hV => ⟨⟨(_, _), rfl, hw, hV⟩, o_end hs hV⟩)
  have lp4 : ∀ (F : Nat) (x1 : Int32) (x2 : Int32), wp_X1_dryByFormula_L4 kx3 σ a F x1 x2 → AW G p l e (aRm 2 σ.2.2.1 (10 * σ.2.2.1)) s m args below meth c (a_A h0 n0) 5 (MQ below (a_Qc G (o_pi Q h0 n0 u0 E σ.2.2.1) (a_A h0 n0)) args s σ.2.2.1 (10 * σ.2.2.1) (a_A h0 n0)) (OW h0 n0 u0 E σ.2.2.1 σ) 4 [some (.ref a), some (.int x1), some (.int x2), none, none] [] := by
    intro F
    induction F with
    | zero => intro x1 x2 hw; exact False.elim hw
    | succ F ih =>
      intro x1 x2 hw
      rw [wp_X1_dryByFormula_L4] at hw
      refine a_iload_2 (pc := 4) C dX1_dryByFormula_4 ?_
      refine a_aload_0 (pc := 5) C dX1_dryByFormula_5 ?_
      obtain ⟨r20, fr20, hw⟩ := hw
      refine a_getf (pc := 6) C (ref := "MaltDrums") in_X1 (ci := 0) rfl 0 (by decide) q299 rfl (fun h n u hV => o_fld fr20 hV) dX1_dryByFormula_6 ?_
      obtain ⟨w21, yw21, hw⟩ := hw
      refine a_getfN (pc := 9) C (ref := "MaltDrums$House") (v := .int (w21.1 11 1)) in_X2 (ci := 1) rfl 11 (by decide) q179 rfl (fun h n u hV => o_hfld yw21 (fun _ => rfl) hV) dX1_dryByFormula_9 ?_
      refine a_icmp_ge (pc := 12) C 52 dX1_dryByFormula_12 (by decide) (fun c22 => ?_) (fun c22 => ?_)
      · have hw := hw.1 c22
        exact hkx3 _ _ hw
      · have hw := hw.2 c22
        refine a_aload_0 (pc := 15) C dX1_dryByFormula_15 ?_
        obtain ⟨r23, fr23, hw⟩ := hw
        refine a_getf (pc := 16) C (ref := "MaltDrums") in_X1 (ci := 0) rfl 0 (by decide) q299 rfl (fun h n u hV => o_fld fr23 hV) dX1_dryByFormula_16 ?_
        obtain ⟨w24, yw24, hw⟩ := hw
        refine a_getfN (pc := 19) C (ref := "MaltDrums$House") (v := .ref (r23 + 1 + 6)) in_X2 (ci := 1) rfl 6 (by decide) q170 rfl (fun h n u hV => o_hfld yw24 (fun _ => rfl) hV) dX1_dryByFormula_19 ?_
        refine a_iload_2 (pc := 22) C dX1_dryByFormula_22 ?_
        obtain ⟨w25, yw25, iw25, hw⟩ := hw
        refine o_hiald (pc := 23) C yw25 (by decide) iw25 dX1_dryByFormula_23 ?_
        refine a_iconst (pc := 24) C dX1_dryByFormula_24 ic_4 ?_
        refine jn_use hw (fun kj27 ekj27 hw => ?_)
        have hkj27 : ∀ (x28 : Int32), kj27 x28 → AW G p l e (aRm 2 σ.2.2.1 (10 * σ.2.2.1)) s m args below meth c (a_A h0 n0) 5 (MQ below (a_Qc G (o_pi Q h0 n0 u0 E σ.2.2.1) (a_A h0 n0)) args s σ.2.2.1 (10 * σ.2.2.1) (a_A h0 n0)) (OW h0 n0 u0 E σ.2.2.1 σ) 45 [some (.ref a), some (.int x1), some (.int x2), none, none] [.int x28] := by
          intro x28 hw
          rw [ekj27] at hw
          refine a_istore_1 (pc := 45) C dX1_dryByFormula_45 (by decide) rfl ?_
          refine a_iinc_2 (pc := 46) (v := 1) C dX1_dryByFormula_46 (by decide) (by decide) rfl ?_
          refine a_goto (pc := 49) C 4 dX1_dryByFormula_49 (by decide) ?_
          exact ih _ _ hw
        refine a_icmp_ne (pc := 25) C 44 dX1_dryByFormula_25 (by decide) (fun c26 => ?_) (fun c26 => ?_)
        · have hw := hw.1 c26
          refine a_iload_1 (pc := 44) C dX1_dryByFormula_44 ?_
          exact hkj27 _ hw
        · have hw := hw.2 c26
          refine a_iload_1 (pc := 28) C dX1_dryByFormula_28 ?_
          refine a_aload_0 (pc := 29) C dX1_dryByFormula_29 ?_
          obtain ⟨r29, fr29, hw⟩ := hw
          refine a_getf (pc := 30) C (ref := "MaltDrums") in_X1 (ci := 0) rfl 0 (by decide) q299 rfl (fun h n u hV => o_fld fr29 hV) dX1_dryByFormula_30 ?_
          obtain ⟨w30, yw30, hw⟩ := hw
          refine a_getfN (pc := 33) C (ref := "MaltDrums$House") (v := .ref (r29 + 1 + 2)) in_X2 (ci := 1) rfl 2 (by decide) q162 rfl (fun h n u hV => o_hfld yw30 (fun _ => rfl) hV) dX1_dryByFormula_33 ?_
          refine a_iload_2 (pc := 36) C dX1_dryByFormula_36 ?_
          obtain ⟨w31, yw31, iw31, hw⟩ := hw
          refine o_hiald (pc := 37) C yw31 (by decide) iw31 dX1_dryByFormula_37 ?_
          refine a_mmax (pc := 38) C (MC := σ.2.2.1) (MS := 10 * σ.2.2.1) (by decide) (fun h n u hV => o_end hs hV) q1017 (Nat.le_of_ble_eq_true rfl) dX1_dryByFormula_38 (a_topi (fun v32 ev32 => ?_))
          have hw := hw v32 ev32
          refine a_goto (pc := 41) C 45 dX1_dryByFormula_41 (by decide) ?_
          exact hkj27 _ hw
  exact lp4 mF _ _ hw
def wp_X1_dryByPlaying_L25 (kx14 : Int32 → OS → Prop) (q1 : Nat) (v11 : Int32) : Nat → Int32 → OS → Prop
  | 0, _, _ => False
  | F + 1, x12, σ13 => (∃ w17 : MS × List Int32, σ13.2.1 q1 = some w17 ∧ wp_X2_set 5 (w17.1, w17.2, σ13.2.2.1) (fun v20 s18 => ∀ σ19 : OS, σ19 = oHc σ13 q1 s18 → ((((v20 &&& v11) = v11) → (kx14 x12 σ19)) ∧ ((¬ (v20 &&& v11) = v11) → (∃ w22 : MS × List Int32, σ19.2.1 q1 = some w22 ∧ wp_X2_hour (w22.1, w22.2, σ19.2.2.1) (fun v25 s23 => ∀ σ24 : OS, σ24 = oHc σ19 q1 s23 → (wp_X1_dryByPlaying_L25 kx14 q1 v11 F (x12 + 1) σ24)))))))
def wp_X1_dryByPlaying (a : Nat) (σ : OS) (Q : Int32 → OS → Prop) : Prop := (3 ≤ σ.2.2.1 ∧ ∀ q1 : Nat, oFr σ q1 → (σ.2.2.2.1 ≠ 0 → q1 = σ.2.2.2.1) → ∀ σ2 : OS, σ2 = oNew σ q1 3 (.inr (1, [.null, .null, .null, .null, .null, .null, .null, .null, .null, .null, .int 0, .int 0, .int 0, .int 0, .int 0, .int 0, .int 0, .int 0, .int 0, .int 0, .int 0, .int 0])) → (∃ r3 : Nat, oF σ2 a 0 0 (.ref r3) ∧ wp_X2_init_2 q1 r3 σ2 (fun σ4 => (∃ (y : MS) (L : List Int32), oHouse σ4 q1 y L ∧ ∀ σ5 : OS, σ5 = oFold σ4 q1 y L → (∃ w7 : MS × List Int32, σ5.2.1 q1 = some w7 ∧ ∀ σ6 : OS, σ6 = oHc σ5 q1 (hU (w7.1, w7.2, σ5.2.2.1) 11 3 1) → (∃ w8 : MS × List Int32, σ6.2.1 q1 = some w8 ∧ wp_X2_set 4 (w8.1, w8.2, σ6.2.2.1) (fun v11 s9 => ∀ σ10 : OS, σ10 = oHc σ6 q1 s9 → (jn (fun (x15 : Int32) (σ16 : OS) => (Q x15 σ16)) (fun kx14 => wp_X1_dryByPlaying_L25 kx14 q1 v11 mF 0 σ10)))))))))
theorem sg_X1_dryByPlaying : aSig yX1_dryByPlaying 0 := by decide +kernel
set_option maxHeartbeats 4000000 in
theorem ct_X1_dryByPlaying (l : Launch) (G : aG) (a : Nat) (E : Nat → Prop) (σ : OS) (Q : Int32 → OS → Prop) (hw : wp_X1_dryByPlaying a σ Q) (h0 : AH) (n0 u0 : Nat) (hB : OB h0 n0 E σ) : CT l yX1_dryByPlaying (ws_ yX1_dryByPlaying cX1_dryByPlaying 4 (some .int)) 20 G [.ref a] h0 n0 u0 σ.2.2.1 (10 * σ.2.2.1) (o_pi Q h0 n0 u0 E σ.2.2.1) := by
  refine CT.intro [some (.ref a), none, none, none] pn_RX1 rfl (Nat.le_of_ble_eq_true rfl) ?_
  intro p e s m args below meth c C hz hu
  have hs : s.heap.size = n0 ∧ slT s.heap = u0 := ⟨hz, hu⟩
  refine a_world (V1 := OW h0 n0 u0 E σ.2.2.1 σ) (OW.start hB) ?_
  unfold wp_X1_dryByPlaying at hw
  refine o_newC (pc := 0) C hs 3 in_X2 tyX2 tyX2_ok q109 q110 q66 (ci := 1) (fs := [.null, .null, .null, .null, .null, .null, .null, .null, .null, .null, .int 0, .int 0, .int 0, .int 0, .int 0, .int 0, .int 0, .int 0, .int 0, .int 0, .int 0, .int 0]) rfl (by decide) (fun f z => by cases z) (by decide) (by decide) hw.1 dX1_dryByPlaying_0 (fun q1 frq1 nxq1 σ2 eσ2 => ?_)
  have hw := hw.2 q1 frq1 nxq1 σ2 eσ2
  refine a_dup (pc := 3) C dX1_dryByPlaying_3 rfl ?_
  refine a_aload_0 (pc := 4) C dX1_dryByPlaying_4 ?_
  obtain ⟨r3, fr3, hw⟩ := hw
  refine a_getf (pc := 5) C (ref := "MaltDrums") in_X1 (ci := 0) rfl 0 (by decide) q299 rfl (fun h n u hV => o_fld fr3 hV) dX1_dryByPlaying_5 ?_
  refine o_callIv (pc := 8) C hs [.ref r3] (b := q1) (st := [.ref q1]) (fun h n u hB => ct_X2_init_2 l G q1 _ E _ _ hw h n u hB) (by decide) (by decide) q66 q971 q972 rfl (lw_meth q973) sg_X2_init_2 (Nat.le_of_ble_eq_true rfl) dX1_dryByPlaying_8 (fun σ4 hw => ?_)
  obtain ⟨y, L, hH, hw⟩ := hw
  refine a_world (fun h n u hV => hV.fold hH) ?_
  refine o_top (fun σ5 eσ5 => ?_)
  have hw := hw σ5 eσ5
  refine a_astore_1 (pc := 11) C dX1_dryByPlaying_11 (by decide) rfl ?_
  refine a_aload_1 (pc := 12) C dX1_dryByPlaying_12 ?_
  refine a_iconst (pc := 13) C dX1_dryByPlaying_13 ic_1 ?_
  obtain ⟨w7, yw7, hw⟩ := hw
  refine a_dom fun h n u hV hdm => ?_
  refine a_putfN (pc := 14) C (ref := "MaltDrums$House") (V1 := OW h0 n0 u0 E σ.2.2.1 (oHc σ5 q1 (hU (w7.1, w7.2, σ5.2.2.1) 11 3 1))) in_X2 tyX2 tyX2_ok nmX2 (ci := 1) rfl 13 (by decide) q183 rfl rfl rfl rfl (fun h n u hI => by obtain ⟨rfl, rfl, rfl⟩ := hI; exact o_hputf (i := 3) (x := 1) yw7 (by decide) (fun _ => by decide) hdm hV) dX1_dryByPlaying_14 (o_top (fun σ6 eσ6 => ?_))
  have hw := hw σ6 eσ6
  refine a_iconst (pc := 17) C dX1_dryByPlaying_17 ic_0 ?_
  refine a_istore_2 (pc := 18) C dX1_dryByPlaying_18 (by decide) rfl ?_
  refine a_aload_1 (pc := 19) C dX1_dryByPlaying_19 ?_
  refine a_iconst (pc := 20) C dX1_dryByPlaying_20 ic_4 ?_
  obtain ⟨w8, yw8, hw⟩ := hw
  refine o_callHi (pc := 21) C hs [.int 4] (st := []) yw8 (fun h n u hV => ct_X2_set l G _ _ _ _ hw h n u hV) (by decide) (by decide) q66 q1009 q1010 q1011 (lw_meth q1012) sg_X2_set (Nat.le_of_ble_eq_true rfl) dX1_dryByPlaying_21 (fun v11 s9 hw => o_top (fun σ10 eσ10 => ?_))
  have hw := hw σ10 eσ10
  refine a_istore_3 (pc := 24) C dX1_dryByPlaying_24 (by decide) rfl ?_
  refine jn_use hw (fun kx14 ekx14 hw => ?_)
  have hkx14 : ∀ (x15 : Int32) (σ16 : OS), kx14 x15 σ16 → AW G p l e (aRm 20 σ.2.2.1 (10 * σ.2.2.1)) s m args below meth c (a_A h0 n0) 4 (MQ below (a_Qc G (o_pi Q h0 n0 u0 E σ.2.2.1) (a_A h0 n0)) args s σ.2.2.1 (10 * σ.2.2.1) (a_A h0 n0)) (OW h0 n0 u0 E σ.2.2.1 σ16) 47 [some (.ref a), some (.ref q1), some (.int x15), some (.int v11)] [] := by
    intro x15 σ16 hw
    rw [ekx14] at hw
    refine a_iload_2 (pc := 47) C dX1_dryByPlaying_47 ?_
    exact a_iret C dX1_dryByPlaying_48 (fun h n u hV => ⟨⟨(_, _), rfl, hw, hV⟩, o_end hs hV⟩)
  have lp25 : ∀ (F : Nat) (x12 : Int32) (σ13 : OS), wp_X1_dryByPlaying_L25 kx14 q1 v11 F x12 σ13 → AW G p l e (aRm 20 σ.2.2.1 (10 * σ.2.2.1)) s m args below meth c (a_A h0 n0) 4 (MQ below (a_Qc G (o_pi Q h0 n0 u0 E σ.2.2.1) (a_A h0 n0)) args s σ.2.2.1 (10 * σ.2.2.1) (a_A h0 n0)) (OW h0 n0 u0 E σ.2.2.1 σ13) 25 [some (.ref a), some (.ref q1), some (.int x12), some (.int v11)] [] := by
    intro F
    induction F with
    | zero => intro x12 σ13 hw; exact False.elim hw
    | succ F ih =>
      intro x12 σ13 hw
      rw [wp_X1_dryByPlaying_L25] at hw
      refine a_aload_1 (pc := 25) C dX1_dryByPlaying_25 ?_
      refine a_iconst (pc := 26) C dX1_dryByPlaying_26 ic_5 ?_
      obtain ⟨w17, yw17, hw⟩ := hw
      refine o_callHi (pc := 27) C hs [.int 5] (st := []) yw17 (fun h n u hV => ct_X2_set l G _ _ _ _ hw h n u hV) (by decide) (by decide) q66 q1009 q1010 q1011 (lw_meth q1012) sg_X2_set (Nat.le_of_ble_eq_true rfl) dX1_dryByPlaying_27 (fun v20 s18 hw => o_top (fun σ19 eσ19 => ?_))
      have hw := hw σ19 eσ19
      refine a_iload_3 (pc := 30) C dX1_dryByPlaying_30 ?_
      refine a_iand (pc := 31) C dX1_dryByPlaying_31 ?_
      refine a_iload_3 (pc := 32) C dX1_dryByPlaying_32 ?_
      refine a_icmp_eq (pc := 33) C 47 dX1_dryByPlaying_33 (by decide) (fun c21 => ?_) (fun c21 => ?_)
      · have hw := hw.1 c21
        exact hkx14 _ _ hw
      · have hw := hw.2 c21
        refine a_aload_1 (pc := 36) C dX1_dryByPlaying_36 ?_
        obtain ⟨w22, yw22, hw⟩ := hw
        refine o_callHi (pc := 37) C hs [] (st := []) yw22 (fun h n u hV => ct_X2_hour l G _ _ _ hw h n u hV) (by decide) (by decide) q66 q1026 q1027 q1028 (lw_meth q1029) sg_X2_hour (Nat.le_of_ble_eq_true rfl) dX1_dryByPlaying_37 (fun v25 s23 hw => o_top (fun σ24 eσ24 => ?_))
        have hw := hw σ24 eσ24
        refine a_pop (pc := 40) C dX1_dryByPlaying_40 rfl ?_
        refine a_iinc_2 (pc := 41) (v := 1) C dX1_dryByPlaying_41 (by decide) (by decide) rfl ?_
        refine a_goto (pc := 44) C 25 dX1_dryByPlaying_44 (by decide) ?_
        exact ih _ _ hw
  exact lp25 mF _ _ hw
def wp_X1_hoursToDry (a : Nat) (p1 : Int32) (σ : OS) (Q : Int32 → OS → Prop) : Prop := (∃ r1 : Nat, oF σ a 0 0 (.ref r1) ∧ (∃ w2 : MS × List Int32, σ.2.1 r1 = some w2 ∧ wp_X2_set 4 (w2.1, w2.2, σ.2.2.1) (fun v5 s3 => ∀ σ4 : OS, σ4 = oHc σ r1 s3 → (((¬ v5 = 0) → (((p1 = 0) → (oC σ4 a 0 ∧ wp_X1_dryByPlaying a σ4 (fun v9 σ8 => (Q v9 σ8)))) ∧ ((¬ p1 = 0) → (oC σ4 a 0 ∧ wp_X1_dryByFormula a σ4 (fun v11 σ10 => (Q v11 σ10)))))) ∧ ((v5 = 0) → (Q ((-1)) σ4))))))
theorem sg_X1_hoursToDry : aSig yX1_hoursToDry 1 := by decide +kernel
set_option maxHeartbeats 4000000 in
theorem ct_X1_hoursToDry (l : Launch) (G : aG) (a : Nat) (p1 : Int32) (E : Nat → Prop) (σ : OS) (Q : Int32 → OS → Prop) (hw : wp_X1_hoursToDry a p1 σ Q) (h0 : AH) (n0 u0 : Nat) (hB : OB h0 n0 E σ) : CT l yX1_hoursToDry (ws_ yX1_hoursToDry cX1_hoursToDry 2 (some .int)) 21 G [.ref a, .int p1] h0 n0 u0 σ.2.2.1 (10 * σ.2.2.1) (o_pi Q h0 n0 u0 E σ.2.2.1) := by
  refine CT.intro [some (.ref a), some (.int p1)] pn_RX1 rfl (Nat.le_of_ble_eq_true rfl) ?_
  intro p e s m args below meth c C hz hu
  have hs : s.heap.size = n0 ∧ slT s.heap = u0 := ⟨hz, hu⟩
  refine a_world (V1 := OW h0 n0 u0 E σ.2.2.1 σ) (OW.start hB) ?_
  unfold wp_X1_hoursToDry at hw
  refine a_aload_0 (pc := 0) C dX1_hoursToDry_0 ?_
  obtain ⟨r1, fr1, hw⟩ := hw
  refine a_getf (pc := 1) C (ref := "MaltDrums") in_X1 (ci := 0) rfl 0 (by decide) q299 rfl (fun h n u hV => o_fld fr1 hV) dX1_hoursToDry_1 ?_
  refine a_iconst (pc := 4) C dX1_hoursToDry_4 ic_4 ?_
  obtain ⟨w2, yw2, hw⟩ := hw
  refine o_callHi (pc := 5) C hs [.int 4] (st := []) yw2 (fun h n u hV => ct_X2_set l G _ _ _ _ hw h n u hV) (by decide) (by decide) q66 q1009 q1010 q1011 (lw_meth q1012) sg_X2_set (Nat.le_of_ble_eq_true rfl) dX1_hoursToDry_5 (fun v5 s3 hw => o_top (fun σ4 eσ4 => ?_))
  have hw := hw σ4 eσ4
  refine a_if_ne (pc := 8) C 13 dX1_hoursToDry_8 (by decide) (fun c6 => ?_) (fun c6 => ?_)
  · have hw := hw.1 c6
    refine a_iload_1 (pc := 13) C dX1_hoursToDry_13 ?_
    refine a_if_eq (pc := 14) C 24 dX1_hoursToDry_14 (by decide) (fun c7 => ?_) (fun c7 => ?_)
    · have hw := hw.1 c7
      refine a_aload_0 (pc := 24) C dX1_hoursToDry_24 ?_
      refine o_callVi (pc := 25) C hs [] (b := a) (ci := 0) (st := []) (fun h n u hB => ct_X1_dryByPlaying l G a E _ _ hw.2 h n u hB) (by decide) (by decide) rfl hw.1 q65 q1022 q1024 qs11 (lw_meth q1025) sg_X1_dryByPlaying (Nat.le_of_ble_eq_true rfl) dX1_hoursToDry_25 (fun v9 σ8 hw => ?_)
      exact a_iret C dX1_hoursToDry_28 (fun h n u hV => ⟨⟨(_, _), rfl, hw, hV⟩, o_end hs hV⟩)
    · have hw := hw.2 c7
      refine a_aload_0 (pc := 17) C dX1_hoursToDry_17 ?_
      refine o_callVi (pc := 18) C hs [] (b := a) (ci := 0) (st := []) (fun h n u hB => ct_X1_dryByFormula l G a E _ _ hw.2 h n u hB) (by decide) (by decide) rfl hw.1 q65 q1013 q1015 qs10 (lw_meth q1016) sg_X1_dryByFormula (Nat.le_of_ble_eq_true rfl) dX1_hoursToDry_18 (fun v11 σ10 hw => ?_)
      refine a_goto (pc := 21) C 28 dX1_hoursToDry_21 (by decide) ?_
      exact a_iret C dX1_hoursToDry_28 (fun h n u hV => ⟨⟨(_, _), rfl, hw, hV⟩, o_end hs hV⟩)
  · have hw := hw.2 c6
    refine a_iconst (pc := 11) C dX1_hoursToDry_11 ic_m1 ?_
    exact a_iret C dX1_hoursToDry_12 (fun h n u hV => ⟨⟨(_, _), rfl, hw, hV⟩, o_end hs hV⟩)
def wp_X1_time (a : Nat) (σ : OS) (Q : Int32 → OS → Prop) : Prop := (∃ r1 : Nat, oF σ a 0 0 (.ref r1) ∧ (∃ w2 : MS × List Int32, σ.2.1 r1 = some w2 ∧ (Q (w2.1 11 2) σ)))
theorem sg_X1_time : aSig yX1_time 0 := by decide +kernel
set_option maxHeartbeats 4000000 in
theorem ct_X1_time (l : Launch) (G : aG) (a : Nat) (E : Nat → Prop) (σ : OS) (Q : Int32 → OS → Prop) (hw : wp_X1_time a σ Q) (h0 : AH) (n0 u0 : Nat) (hB : OB h0 n0 E σ) : CT l yX1_time (ws_ yX1_time cX1_time 1 (some .int)) 1 G [.ref a] h0 n0 u0 σ.2.2.1 (10 * σ.2.2.1) (o_pi Q h0 n0 u0 E σ.2.2.1) := by
  refine CT.intro [some (.ref a)] pn_RX1 rfl (Nat.le_of_ble_eq_true rfl) ?_
  intro p e s m args below meth c C hz hu
  have hs : s.heap.size = n0 ∧ slT s.heap = u0 := ⟨hz, hu⟩
  refine a_world (V1 := OW h0 n0 u0 E σ.2.2.1 σ) (OW.start hB) ?_
  unfold wp_X1_time at hw
  refine a_aload_0 (pc := 0) C dX1_time_0 ?_
  obtain ⟨r1, fr1, hw⟩ := hw
  refine a_getf (pc := 1) C (ref := "MaltDrums") in_X1 (ci := 0) rfl 0 (by decide) q299 rfl (fun h n u hV => o_fld fr1 hV) dX1_time_1 ?_
  obtain ⟨w2, yw2, hw⟩ := hw
  refine a_getfN (pc := 4) C (ref := "MaltDrums$House") (v := .int (w2.1 11 2)) in_X2 (ci := 1) rfl 12 (by decide) q181 rfl (fun h n u hV => o_hfld yw2 (fun _ => rfl) hV) dX1_time_4 ?_
  exact a_iret C dX1_time_7 (fun h n u hV => ⟨⟨(_, _), rfl, hw, hV⟩, o_end hs hV⟩)
def wp_X1_kernelsIn_L4 (kx3 : Int32 → Int32 → Prop) (σ : OS) (a : Nat) (p1 : Int32) : Nat → Int32 → Int32 → Prop
  | 0, _, _ => False
  | F + 1, x1, x2 => (∃ r6 : Nat, oF σ a 0 0 (.ref r6) ∧ (∃ w7 : MS × List Int32, σ.2.1 r6 = some w7 ∧ ((((w7.1 11 1) ≤ x2) → (kx3 x1 x2)) ∧ ((¬ (w7.1 11 1) ≤ x2) → (∃ r9 : Nat, oF σ a 0 0 (.ref r9) ∧ (∃ w10 : MS × List Int32, σ.2.1 r9 = some w10 ∧ (∃ w11 : MS × List Int32, σ.2.1 r9 = some w11 ∧ vp_in x2 12 ∧ (jn (fun (x14 : Int32) => (wp_X1_kernelsIn_L4 kx3 σ a p1 F (x1 + x14) (x2 + 1))) (fun kj13 => (((¬ (w11.1 6 x2.toNatClampNeg) = p1) → (kj13 0)) ∧ (((w11.1 6 x2.toNatClampNeg) = p1) → (∃ r15 : Nat, oF σ a 0 0 (.ref r15) ∧ (∃ w16 : MS × List Int32, σ.2.1 r15 = some w16 ∧ (∃ w17 : MS × List Int32, σ.2.1 r15 = some w17 ∧ vp_in x2 12 ∧ (kj13 (w17.1 0 x2.toNatClampNeg))))))))))))))))
def wp_X1_kernelsIn (a : Nat) (p1 : Int32) (σ : OS) (Q : Int32 → OS → Prop) : Prop := (jn (fun (x4 : Int32) (x5 : Int32) => (Q x4 σ)) (fun kx3 => wp_X1_kernelsIn_L4 kx3 σ a p1 mF 0 0))
theorem sg_X1_kernelsIn : aSig yX1_kernelsIn 1 := by decide +kernel
set_option maxHeartbeats 4000000 in
theorem ct_X1_kernelsIn (l : Launch) (G : aG) (a : Nat) (p1 : Int32) (E : Nat → Prop) (σ : OS) (Q : Int32 → OS → Prop) (hw : wp_X1_kernelsIn a p1 σ Q) (h0 : AH) (n0 u0 : Nat) (hB : OB h0 n0 E σ) : CT l yX1_kernelsIn (ws_ yX1_kernelsIn cX1_kernelsIn 4 (some .int)) 1 G [.ref a, .int p1] h0 n0 u0 σ.2.2.1 (10 * σ.2.2.1) (o_pi Q h0 n0 u0 E σ.2.2.1) := by
  refine CT.intro [some (.ref a), some (.int p1), none, none] pn_RX1 rfl (Nat.le_of_ble_eq_true rfl) ?_
  intro p e s m args below meth c C hz hu
  have hs : s.heap.size = n0 ∧ slT s.heap = u0 := ⟨hz, hu⟩
  refine a_world (V1 := OW h0 n0 u0 E σ.2.2.1 σ) (OW.start hB) ?_
  unfold wp_X1_kernelsIn at hw
  refine a_iconst (pc := 0) C dX1_kernelsIn_0 ic_0 ?_
  refine a_istore_2 (pc := 1) C dX1_kernelsIn_1 (by decide) rfl ?_
  refine a_iconst (pc := 2) C dX1_kernelsIn_2 ic_0 ?_
  refine a_istore_3 (pc := 3) C dX1_kernelsIn_3 (by decide) rfl ?_
  refine jn_use hw (fun kx3 ekx3 hw => ?_)
  have hkx3 : ∀ (x4 : Int32) (x5 : Int32), kx3 x4 x5 → AW G p l e (aRm 1 σ.2.2.1 (10 * σ.2.2.1)) s m args below meth c (a_A h0 n0) 4 (MQ below (a_Qc G (o_pi Q h0 n0 u0 E σ.2.2.1) (a_A h0 n0)) args s σ.2.2.1 (10 * σ.2.2.1) (a_A h0 n0)) (OW h0 n0 u0 E σ.2.2.1 σ) 50 [some (.ref a), some (.int p1), some (.int x4), some (.int x5)] [] := by
    intro x4 x5 hw
    rw [ekx3] at hw
    refine a_iload_2 (pc := 50) C dX1_kernelsIn_50 ?_
    exact a_iret C dX1_kernelsIn_51 (fun h n u hV => ⟨⟨(_, _), rfl, hw, hV⟩, o_end hs hV⟩)
  have lp4 : ∀ (F : Nat) (x1 : Int32) (x2 : Int32), wp_X1_kernelsIn_L4 kx3 σ a p1 F x1 x2 → AW G p l e (aRm 1 σ.2.2.1 (10 * σ.2.2.1)) s m args below meth c (a_A h0 n0) 4 (MQ below (a_Qc G (o_pi Q h0 n0 u0 E σ.2.2.1) (a_A h0 n0)) args s σ.2.2.1 (10 * σ.2.2.1) (a_A h0 n0)) (OW h0 n0 u0 E σ.2.2.1 σ) 4 [some (.ref a), some (.int p1), some (.int x1), some (.int x2)] [] := by
    intro F
    induction F with
    | zero => intro x1 x2 hw; exact False.elim hw
    | succ F ih =>
      intro x1 x2 hw
      rw [wp_X1_kernelsIn_L4] at hw
      refine a_iload_3 (pc := 4) C dX1_kernelsIn_4 ?_
      refine a_aload_0 (pc := 5) C dX1_kernelsIn_5 ?_
      obtain ⟨r6, fr6, hw⟩ := hw
      refine a_getf (pc := 6) C (ref := "MaltDrums") in_X1 (ci := 0) rfl 0 (by decide) q299 rfl (fun h n u hV => o_fld fr6 hV) dX1_kernelsIn_6 ?_
      obtain ⟨w7, yw7, hw⟩ := hw
      refine a_getfN (pc := 9) C (ref := "MaltDrums$House") (v := .int (w7.1 11 1)) in_X2 (ci := 1) rfl 11 (by decide) q179 rfl (fun h n u hV => o_hfld yw7 (fun _ => rfl) hV) dX1_kernelsIn_9 ?_
      refine a_icmp_ge (pc := 12) C 50 dX1_kernelsIn_12 (by decide) (fun c8 => ?_) (fun c8 => ?_)
      · have hw := hw.1 c8
        exact hkx3 _ _ hw
      · have hw := hw.2 c8
        refine a_iload_2 (pc := 15) C dX1_kernelsIn_15 ?_
        refine a_aload_0 (pc := 16) C dX1_kernelsIn_16 ?_
        obtain ⟨r9, fr9, hw⟩ := hw
        refine a_getf (pc := 17) C (ref := "MaltDrums") in_X1 (ci := 0) rfl 0 (by decide) q299 rfl (fun h n u hV => o_fld fr9 hV) dX1_kernelsIn_17 ?_
        obtain ⟨w10, yw10, hw⟩ := hw
        refine a_getfN (pc := 20) C (ref := "MaltDrums$House") (v := .ref (r9 + 1 + 6)) in_X2 (ci := 1) rfl 6 (by decide) q170 rfl (fun h n u hV => o_hfld yw10 (fun _ => rfl) hV) dX1_kernelsIn_20 ?_
        refine a_iload_3 (pc := 23) C dX1_kernelsIn_23 ?_
        obtain ⟨w11, yw11, iw11, hw⟩ := hw
        refine o_hiald (pc := 24) C yw11 (by decide) iw11 dX1_kernelsIn_24 ?_
        refine a_iload_1 (pc := 25) C dX1_kernelsIn_25 ?_
        refine jn_use hw (fun kj13 ekj13 hw => ?_)
        have hkj13 : ∀ (x14 : Int32), kj13 x14 → AW G p l e (aRm 1 σ.2.2.1 (10 * σ.2.2.1)) s m args below meth c (a_A h0 n0) 4 (MQ below (a_Qc G (o_pi Q h0 n0 u0 E σ.2.2.1) (a_A h0 n0)) args s σ.2.2.1 (10 * σ.2.2.1) (a_A h0 n0)) (OW h0 n0 u0 E σ.2.2.1 σ) 42 [some (.ref a), some (.int p1), some (.int x1), some (.int x2)] [.int x14, .int x1] := by
          intro x14 hw
          rw [ekj13] at hw
          refine a_iadd (pc := 42) C dX1_kernelsIn_42 ?_
          refine a_istore_2 (pc := 43) C dX1_kernelsIn_43 (by decide) rfl ?_
          refine a_iinc_3 (pc := 44) (v := 1) C dX1_kernelsIn_44 (by decide) (by decide) rfl ?_
          refine a_goto (pc := 47) C 4 dX1_kernelsIn_47 (by decide) ?_
          exact ih _ _ hw
        refine a_icmp_ne (pc := 26) C 41 dX1_kernelsIn_26 (by decide) (fun c12 => ?_) (fun c12 => ?_)
        · have hw := hw.1 c12
          refine a_iconst (pc := 41) C dX1_kernelsIn_41 ic_0 ?_
          exact hkj13 _ hw
        · have hw := hw.2 c12
          refine a_aload_0 (pc := 29) C dX1_kernelsIn_29 ?_
          obtain ⟨r15, fr15, hw⟩ := hw
          refine a_getf (pc := 30) C (ref := "MaltDrums") in_X1 (ci := 0) rfl 0 (by decide) q299 rfl (fun h n u hV => o_fld fr15 hV) dX1_kernelsIn_30 ?_
          obtain ⟨w16, yw16, hw⟩ := hw
          refine a_getfN (pc := 33) C (ref := "MaltDrums$House") (v := .ref (r15 + 1 + 0)) in_X2 (ci := 1) rfl 0 (by decide) q158 rfl (fun h n u hV => o_hfld yw16 (fun _ => rfl) hV) dX1_kernelsIn_33 ?_
          refine a_iload_3 (pc := 36) C dX1_kernelsIn_36 ?_
          obtain ⟨w17, yw17, iw17, hw⟩ := hw
          refine o_hiald (pc := 37) C yw17 (by decide) iw17 dX1_kernelsIn_37 ?_
          refine a_goto (pc := 38) C 42 dX1_kernelsIn_38 (by decide) ?_
          exact hkj13 _ hw
  exact lp4 mF _ _ hw
def wp_X1_malt (a : Nat) (σ : OS) (Q : Int32 → OS → Prop) : Prop := (oC σ a 0 ∧ wp_X1_kernelsIn a 5 σ (fun v2 σ1 => (Q v2 σ1)))
theorem sg_X1_malt : aSig yX1_malt 0 := by decide +kernel
set_option maxHeartbeats 4000000 in
theorem ct_X1_malt (l : Launch) (G : aG) (a : Nat) (E : Nat → Prop) (σ : OS) (Q : Int32 → OS → Prop) (hw : wp_X1_malt a σ Q) (h0 : AH) (n0 u0 : Nat) (hB : OB h0 n0 E σ) : CT l yX1_malt (ws_ yX1_malt cX1_malt 1 (some .int)) 2 G [.ref a] h0 n0 u0 σ.2.2.1 (10 * σ.2.2.1) (o_pi Q h0 n0 u0 E σ.2.2.1) := by
  refine CT.intro [some (.ref a)] pn_RX1 rfl (Nat.le_of_ble_eq_true rfl) ?_
  intro p e s m args below meth c C hz hu
  have hs : s.heap.size = n0 ∧ slT s.heap = u0 := ⟨hz, hu⟩
  refine a_world (V1 := OW h0 n0 u0 E σ.2.2.1 σ) (OW.start hB) ?_
  unfold wp_X1_malt at hw
  refine a_aload_0 (pc := 0) C dX1_malt_0 ?_
  refine a_iconst (pc := 1) C dX1_malt_1 ic_5 ?_
  refine o_callVi (pc := 2) C hs [.int 5] (b := a) (ci := 0) (st := []) (fun h n u hB => ct_X1_kernelsIn l G a _ E _ _ hw.2 h n u hB) (by decide) (by decide) rfl hw.1 q65 q1182 q1184 qs21 (lw_meth q1185) sg_X1_kernelsIn (Nat.le_of_ble_eq_true rfl) dX1_malt_2 (fun v2 σ1 hw => ?_)
  exact a_iret C dX1_malt_5 (fun h n u hV => ⟨⟨(_, _), rfl, hw, hV⟩, o_end hs hV⟩)
def wp_X1_culms (a : Nat) (σ : OS) (Q : Int32 → OS → Prop) : Prop := (∃ r1 : Nat, oF σ a 0 0 (.ref r1) ∧ (∃ w2 : MS × List Int32, σ.2.1 r1 = some w2 ∧ wp_X2_weightIn 5 (w2.1, w2.2, σ.2.2.1) (fun v5 s3 => ∀ σ4 : OS, σ4 = oHc σ r1 s3 → (oC σ4 a 0 ∧ wp_X1_kernelsIn a 5 σ4 (fun v7 σ6 => (Q (v5 - v7) σ6))))))
theorem sg_X1_culms : aSig yX1_culms 0 := by decide +kernel
set_option maxHeartbeats 4000000 in
theorem ct_X1_culms (l : Launch) (G : aG) (a : Nat) (E : Nat → Prop) (σ : OS) (Q : Int32 → OS → Prop) (hw : wp_X1_culms a σ Q) (h0 : AH) (n0 u0 : Nat) (hB : OB h0 n0 E σ) : CT l yX1_culms (ws_ yX1_culms cX1_culms 1 (some .int)) 3 G [.ref a] h0 n0 u0 σ.2.2.1 (10 * σ.2.2.1) (o_pi Q h0 n0 u0 E σ.2.2.1) := by
  refine CT.intro [some (.ref a)] pn_RX1 rfl (Nat.le_of_ble_eq_true rfl) ?_
  intro p e s m args below meth c C hz hu
  have hs : s.heap.size = n0 ∧ slT s.heap = u0 := ⟨hz, hu⟩
  refine a_world (V1 := OW h0 n0 u0 E σ.2.2.1 σ) (OW.start hB) ?_
  unfold wp_X1_culms at hw
  refine a_aload_0 (pc := 0) C dX1_culms_0 ?_
  obtain ⟨r1, fr1, hw⟩ := hw
  refine a_getf (pc := 1) C (ref := "MaltDrums") in_X1 (ci := 0) rfl 0 (by decide) q299 rfl (fun h n u hV => o_fld fr1 hV) dX1_culms_1 ?_
  refine a_iconst (pc := 4) C dX1_culms_4 ic_5 ?_
  obtain ⟨w2, yw2, hw⟩ := hw
  refine o_callHi (pc := 5) C hs [.int 5] (st := []) yw2 (fun h n u hV => ct_X2_weightIn l G _ _ _ _ hw h n u hV) (by decide) (by decide) q66 q993 q994 q995 (lw_meth q996) sg_X2_weightIn (Nat.le_of_ble_eq_true rfl) dX1_culms_5 (fun v5 s3 hw => o_top (fun σ4 eσ4 => ?_))
  have hw := hw σ4 eσ4
  refine a_aload_0 (pc := 8) C dX1_culms_8 ?_
  refine a_iconst (pc := 9) C dX1_culms_9 ic_5 ?_
  refine o_callVi (pc := 10) C hs [.int 5] (b := a) (ci := 0) (st := [.int v5]) (fun h n u hB => ct_X1_kernelsIn l G a _ E _ _ hw.2 h n u hB) (by decide) (by decide) rfl hw.1 q65 q1182 q1184 qs21 (lw_meth q1185) sg_X1_kernelsIn (Nat.le_of_ble_eq_true rfl) dX1_culms_10 (fun v7 σ6 hw => ?_)
  refine a_isub (pc := 13) C dX1_culms_13 ?_
  exact a_iret C dX1_culms_14 (fun h n u hV => ⟨⟨(_, _), rfl, hw, hV⟩, o_end hs hV⟩)
def wp_X1_spoilt (a : Nat) (σ : OS) (Q : Int32 → OS → Prop) : Prop := (∃ r1 : Nat, oF σ a 0 0 (.ref r1) ∧ (∃ w2 : MS × List Int32, σ.2.1 r1 = some w2 ∧ wp_X2_weightIn 6 (w2.1, w2.2, σ.2.2.1) (fun v5 s3 => ∀ σ4 : OS, σ4 = oHc σ r1 s3 → (Q v5 σ4))))
theorem sg_X1_spoilt : aSig yX1_spoilt 0 := by decide +kernel
set_option maxHeartbeats 4000000 in
theorem ct_X1_spoilt (l : Launch) (G : aG) (a : Nat) (E : Nat → Prop) (σ : OS) (Q : Int32 → OS → Prop) (hw : wp_X1_spoilt a σ Q) (h0 : AH) (n0 u0 : Nat) (hB : OB h0 n0 E σ) : CT l yX1_spoilt (ws_ yX1_spoilt cX1_spoilt 1 (some .int)) 3 G [.ref a] h0 n0 u0 σ.2.2.1 (10 * σ.2.2.1) (o_pi Q h0 n0 u0 E σ.2.2.1) := by
  refine CT.intro [some (.ref a)] pn_RX1 rfl (Nat.le_of_ble_eq_true rfl) ?_
  intro p e s m args below meth c C hz hu
  have hs : s.heap.size = n0 ∧ slT s.heap = u0 := ⟨hz, hu⟩
  refine a_world (V1 := OW h0 n0 u0 E σ.2.2.1 σ) (OW.start hB) ?_
  unfold wp_X1_spoilt at hw
  refine a_aload_0 (pc := 0) C dX1_spoilt_0 ?_
  obtain ⟨r1, fr1, hw⟩ := hw
  refine a_getf (pc := 1) C (ref := "MaltDrums") in_X1 (ci := 0) rfl 0 (by decide) q299 rfl (fun h n u hV => o_fld fr1 hV) dX1_spoilt_1 ?_
  refine a_bipush (pc := 4) C dX1_spoilt_4 bc_6 ?_
  obtain ⟨w2, yw2, hw⟩ := hw
  refine o_callHi (pc := 6) C hs [.int 6] (st := []) yw2 (fun h n u hV => ct_X2_weightIn l G _ _ _ _ hw h n u hV) (by decide) (by decide) q66 q993 q994 q995 (lw_meth q996) sg_X2_weightIn (Nat.le_of_ble_eq_true rfl) dX1_spoilt_6 (fun v5 s3 hw => o_top (fun σ4 eσ4 => ?_))
  have hw := hw σ4 eσ4
  exact a_iret C dX1_spoilt_9 (fun h n u hV => ⟨⟨(_, _), rfl, hw, hV⟩, o_end hs hV⟩)
def wp_X1_breathed (a : Nat) (σ : OS) (Q : Int32 → OS → Prop) : Prop := (∃ r1 : Nat, oF σ a 0 0 (.ref r1) ∧ (∃ w2 : MS × List Int32, σ.2.1 r1 = some w2 ∧ (Q (w2.1 11 10) σ)))
theorem sg_X1_breathed : aSig yX1_breathed 0 := by decide +kernel
set_option maxHeartbeats 4000000 in
theorem ct_X1_breathed (l : Launch) (G : aG) (a : Nat) (E : Nat → Prop) (σ : OS) (Q : Int32 → OS → Prop) (hw : wp_X1_breathed a σ Q) (h0 : AH) (n0 u0 : Nat) (hB : OB h0 n0 E σ) : CT l yX1_breathed (ws_ yX1_breathed cX1_breathed 1 (some .int)) 1 G [.ref a] h0 n0 u0 σ.2.2.1 (10 * σ.2.2.1) (o_pi Q h0 n0 u0 E σ.2.2.1) := by
  refine CT.intro [some (.ref a)] pn_RX1 rfl (Nat.le_of_ble_eq_true rfl) ?_
  intro p e s m args below meth c C hz hu
  have hs : s.heap.size = n0 ∧ slT s.heap = u0 := ⟨hz, hu⟩
  refine a_world (V1 := OW h0 n0 u0 E σ.2.2.1 σ) (OW.start hB) ?_
  unfold wp_X1_breathed at hw
  refine a_aload_0 (pc := 0) C dX1_breathed_0 ?_
  obtain ⟨r1, fr1, hw⟩ := hw
  refine a_getf (pc := 1) C (ref := "MaltDrums") in_X1 (ci := 0) rfl 0 (by decide) q299 rfl (fun h n u hV => o_fld fr1 hV) dX1_breathed_1 ?_
  obtain ⟨w2, yw2, hw⟩ := hw
  refine a_getfN (pc := 4) C (ref := "MaltDrums$House") (v := .int (w2.1 11 10)) in_X2 (ci := 1) rfl 20 (by decide) q197 rfl (fun h n u hV => o_hfld yw2 (fun _ => rfl) hV) dX1_breathed_4 ?_
  exact a_iret C dX1_breathed_7 (fun h n u hV => ⟨⟨(_, _), rfl, hw, hV⟩, o_end hs hV⟩)
def wp_X1_steeped_L34 (kx14 : Int32 → Int32 → OS → Prop) (a : Nat) : Nat → Int32 → Int32 → OS → Prop
  | 0, _, _, _ => False
  | F + 1, x11, x12, σ13 => (((4 < x12) → (kx14 x11 x12 σ13)) ∧ ((¬ 4 < x12) → (∃ r19 : Nat, oF σ13 a 0 0 (.ref r19) ∧ (∃ w20 : MS × List Int32, σ13.2.1 r19 = some w20 ∧ wp_X2_weightIn x12 (w20.1, w20.2, σ13.2.2.1) (fun v23 s21 => ∀ σ22 : OS, σ22 = oHc σ13 r19 s21 → (wp_X1_steeped_L34 kx14 a F (x11 + v23) (x12 + 1) σ22))))))
def wp_X1_steeped (a : Nat) (p1 : Int32) (σ : OS) (Q : Int32 → OS → Prop) : Prop := (((¬ p1 = 0) → (oC σ a 0 ∧ wp_X1_malt a σ (fun v3 σ2 => (oC σ2 a 0 ∧ wp_X1_culms a σ2 (fun v5 σ4 => (oC σ4 a 0 ∧ wp_X1_spoilt a σ4 (fun v7 σ6 => (oC σ6 a 0 ∧ wp_X1_breathed a σ6 (fun v9 σ8 => (∀ x10 : Int32, x10 = ((v3 + v5) + v7) + v9 → (jn (fun (x15 : Int32) (x16 : Int32) (σ17 : OS) => (Q x15 σ17)) (fun kx14 => wp_X1_steeped_L34 kx14 a mF x10 1 σ8)))))))))))) ∧ ((p1 = 0) → (∃ r24 : Nat, oF σ a 0 0 (.ref r24) ∧ (∃ w25 : MS × List Int32, σ.2.1 r24 = some w25 ∧ (Q (w25.1 11 9) σ)))))
theorem sg_X1_steeped : aSig yX1_steeped 1 := by decide +kernel
set_option maxHeartbeats 4000000 in
theorem ct_X1_steeped (l : Launch) (G : aG) (a : Nat) (p1 : Int32) (E : Nat → Prop) (σ : OS) (Q : Int32 → OS → Prop) (hw : wp_X1_steeped a p1 σ Q) (h0 : AH) (n0 u0 : Nat) (hB : OB h0 n0 E σ) : CT l yX1_steeped (ws_ yX1_steeped cX1_steeped 4 (some .int)) 4 G [.ref a, .int p1] h0 n0 u0 σ.2.2.1 (10 * σ.2.2.1) (o_pi Q h0 n0 u0 E σ.2.2.1) := by
  refine CT.intro [some (.ref a), some (.int p1), none, none] pn_RX1 rfl (Nat.le_of_ble_eq_true rfl) ?_
  intro p e s m args below meth c C hz hu
  have hs : s.heap.size = n0 ∧ slT s.heap = u0 := ⟨hz, hu⟩
  refine a_world (V1 := OW h0 n0 u0 E σ.2.2.1 σ) (OW.start hB) ?_
  unfold wp_X1_steeped at hw
  refine a_iload_1 (pc := 0) C dX1_steeped_0 ?_
  refine a_if_ne (pc := 1) C 12 dX1_steeped_1 (by decide) (fun c1 => ?_) (fun c1 => ?_)
  · have hw := hw.1 c1
    refine a_aload_0 (pc := 12) C dX1_steeped_12 ?_
    refine o_callVi (pc := 13) C hs [] (b := a) (ci := 0) (st := []) (fun h n u hB => ct_X1_malt l G a E _ _ hw.2 h n u hB) (by decide) (by decide) rfl hw.1 q65 q1178 q1179 q1180 (lw_meth q1181) sg_X1_malt (Nat.le_of_ble_eq_true rfl) dX1_steeped_13 (fun v3 σ2 hw => ?_)
    refine a_aload_0 (pc := 16) C dX1_steeped_16 ?_
    refine o_callVi (pc := 17) C hs [] (b := a) (ci := 0) (st := [.int v3]) (fun h n u hB => ct_X1_culms l G a E _ _ hw.2 h n u hB) (by decide) (by decide) rfl hw.1 q65 q1186 q1187 q1188 (lw_meth q1189) sg_X1_culms (Nat.le_of_ble_eq_true rfl) dX1_steeped_17 (fun v5 σ4 hw => ?_)
    refine a_iadd (pc := 20) C dX1_steeped_20 ?_
    refine a_aload_0 (pc := 21) C dX1_steeped_21 ?_
    refine o_callVi (pc := 22) C hs [] (b := a) (ci := 0) (st := [.int (v3 + v5)]) (fun h n u hB => ct_X1_spoilt l G a E _ _ hw.2 h n u hB) (by decide) (by decide) rfl hw.1 q65 q1190 q1191 q1192 (lw_meth q1193) sg_X1_spoilt (Nat.le_of_ble_eq_true rfl) dX1_steeped_22 (fun v7 σ6 hw => ?_)
    refine a_iadd (pc := 25) C dX1_steeped_25 ?_
    refine a_aload_0 (pc := 26) C dX1_steeped_26 ?_
    refine o_callVi (pc := 27) C hs [] (b := a) (ci := 0) (st := [.int ((v3 + v5) + v7)]) (fun h n u hB => ct_X1_breathed l G a E _ _ hw.2 h n u hB) (by decide) (by decide) rfl hw.1 q65 q1194 q1195 q1196 (lw_meth q1197) sg_X1_breathed (Nat.le_of_ble_eq_true rfl) dX1_steeped_27 (fun v9 σ8 hw => ?_)
    refine a_iadd (pc := 30) C dX1_steeped_30 ?_
    refine a_topi (fun x10 ex10 => ?_)
    have hw := hw x10 ex10
    refine a_istore_2 (pc := 31) C dX1_steeped_31 (by decide) rfl ?_
    refine a_iconst (pc := 32) C dX1_steeped_32 ic_1 ?_
    refine a_istore_3 (pc := 33) C dX1_steeped_33 (by decide) rfl ?_
    refine jn_use hw (fun kx14 ekx14 hw => ?_)
    have hkx14 : ∀ (x15 : Int32) (x16 : Int32) (σ17 : OS), kx14 x15 x16 σ17 → AW G p l e (aRm 4 σ.2.2.1 (10 * σ.2.2.1)) s m args below meth c (a_A h0 n0) 4 (MQ below (a_Qc G (o_pi Q h0 n0 u0 E σ.2.2.1) (a_A h0 n0)) args s σ.2.2.1 (10 * σ.2.2.1) (a_A h0 n0)) (OW h0 n0 u0 E σ.2.2.1 σ17) 56 [some (.ref a), some (.int p1), some (.int x15), some (.int x16)] [] := by
      intro x15 x16 σ17 hw
      rw [ekx14] at hw
      refine a_iload_2 (pc := 56) C dX1_steeped_56 ?_
      exact a_iret C dX1_steeped_57 (fun h n u hV => ⟨⟨(_, _), rfl, hw, hV⟩, o_end hs hV⟩)
    have lp34 : ∀ (F : Nat) (x11 : Int32) (x12 : Int32) (σ13 : OS), wp_X1_steeped_L34 kx14 a F x11 x12 σ13 → AW G p l e (aRm 4 σ.2.2.1 (10 * σ.2.2.1)) s m args below meth c (a_A h0 n0) 4 (MQ below (a_Qc G (o_pi Q h0 n0 u0 E σ.2.2.1) (a_A h0 n0)) args s σ.2.2.1 (10 * σ.2.2.1) (a_A h0 n0)) (OW h0 n0 u0 E σ.2.2.1 σ13) 34 [some (.ref a), some (.int p1), some (.int x11), some (.int x12)] [] := by
      intro F
      induction F with
      | zero => intro x11 x12 σ13 hw; exact False.elim hw
      | succ F ih =>
        intro x11 x12 σ13 hw
        rw [wp_X1_steeped_L34] at hw
        refine a_iload_3 (pc := 34) C dX1_steeped_34 ?_
        refine a_iconst (pc := 35) C dX1_steeped_35 ic_4 ?_
        refine a_icmp_gt (pc := 36) C 56 dX1_steeped_36 (by decide) (fun c18 => ?_) (fun c18 => ?_)
        · have hw := hw.1 c18
          exact hkx14 _ _ _ hw
        · have hw := hw.2 c18
          refine a_iload_2 (pc := 39) C dX1_steeped_39 ?_
          refine a_aload_0 (pc := 40) C dX1_steeped_40 ?_
          obtain ⟨r19, fr19, hw⟩ := hw
          refine a_getf (pc := 41) C (ref := "MaltDrums") in_X1 (ci := 0) rfl 0 (by decide) q299 rfl (fun h n u hV => o_fld fr19 hV) dX1_steeped_41 ?_
          refine a_iload_3 (pc := 44) C dX1_steeped_44 ?_
          obtain ⟨w20, yw20, hw⟩ := hw
          refine o_callHi (pc := 45) C hs [.int x12] (st := [.int x11]) yw20 (fun h n u hV => ct_X2_weightIn l G _ _ _ _ hw h n u hV) (by decide) (by decide) q66 q993 q994 q995 (lw_meth q996) sg_X2_weightIn (Nat.le_of_ble_eq_true rfl) dX1_steeped_45 (fun v23 s21 hw => o_top (fun σ22 eσ22 => ?_))
          have hw := hw σ22 eσ22
          refine a_iadd (pc := 48) C dX1_steeped_48 ?_
          refine a_istore_2 (pc := 49) C dX1_steeped_49 (by decide) rfl ?_
          refine a_iinc_3 (pc := 50) (v := 1) C dX1_steeped_50 (by decide) (by decide) rfl ?_
          refine a_goto (pc := 53) C 34 dX1_steeped_53 (by decide) ?_
          exact ih _ _ _ hw
    exact lp34 mF _ _ _ hw
  · have hw := hw.2 c1
    refine a_aload_0 (pc := 4) C dX1_steeped_4 ?_
    obtain ⟨r24, fr24, hw⟩ := hw
    refine a_getf (pc := 5) C (ref := "MaltDrums") in_X1 (ci := 0) rfl 0 (by decide) q299 rfl (fun h n u hV => o_fld fr24 hV) dX1_steeped_5 ?_
    obtain ⟨w25, yw25, hw⟩ := hw
    refine a_getfN (pc := 8) C (ref := "MaltDrums$House") (v := .int (w25.1 11 9)) in_X2 (ci := 1) rfl 19 (by decide) q195 rfl (fun h n u hV => o_hfld yw25 (fun _ => rfl) hV) dX1_steeped_8 ?_
    exact a_iret C dX1_steeped_11 (fun h n u hV => ⟨⟨(_, _), rfl, hw, hV⟩, o_end hs hV⟩)
def wp_X1_sprays (a : Nat) (σ : OS) (Q : Int32 → OS → Prop) : Prop := (∃ r1 : Nat, oF σ a 0 0 (.ref r1) ∧ (∃ w2 : MS × List Int32, σ.2.1 r1 = some w2 ∧ (Q (w2.1 11 11) σ)))
theorem sg_X1_sprays : aSig yX1_sprays 0 := by decide +kernel
set_option maxHeartbeats 4000000 in
theorem ct_X1_sprays (l : Launch) (G : aG) (a : Nat) (E : Nat → Prop) (σ : OS) (Q : Int32 → OS → Prop) (hw : wp_X1_sprays a σ Q) (h0 : AH) (n0 u0 : Nat) (hB : OB h0 n0 E σ) : CT l yX1_sprays (ws_ yX1_sprays cX1_sprays 1 (some .int)) 1 G [.ref a] h0 n0 u0 σ.2.2.1 (10 * σ.2.2.1) (o_pi Q h0 n0 u0 E σ.2.2.1) := by
  refine CT.intro [some (.ref a)] pn_RX1 rfl (Nat.le_of_ble_eq_true rfl) ?_
  intro p e s m args below meth c C hz hu
  have hs : s.heap.size = n0 ∧ slT s.heap = u0 := ⟨hz, hu⟩
  refine a_world (V1 := OW h0 n0 u0 E σ.2.2.1 σ) (OW.start hB) ?_
  unfold wp_X1_sprays at hw
  refine a_aload_0 (pc := 0) C dX1_sprays_0 ?_
  obtain ⟨r1, fr1, hw⟩ := hw
  refine a_getf (pc := 1) C (ref := "MaltDrums") in_X1 (ci := 0) rfl 0 (by decide) q299 rfl (fun h n u hV => o_fld fr1 hV) dX1_sprays_1 ?_
  obtain ⟨w2, yw2, hw⟩ := hw
  refine a_getfN (pc := 4) C (ref := "MaltDrums$House") (v := .int (w2.1 11 11)) in_X2 (ci := 1) rfl 21 (by decide) q199 rfl (fun h n u hV => o_hfld yw2 (fun _ => rfl) hV) dX1_sprays_4 ?_
  exact a_iret C dX1_sprays_7 (fun h n u hV => ⟨⟨(_, _), rfl, hw, hV⟩, o_end hs hV⟩)
def wp_X1_meanGrowth_L16 (kx9 : Int32 → Int32 → Prop) (σ4 : OS) (a : Nat) : Nat → Int32 → Int32 → Prop
  | 0, _, _ => False
  | F + 1, x7, x8 => (∃ r13 : Nat, oF σ4 a 0 0 (.ref r13) ∧ (∃ w14 : MS × List Int32, σ4.2.1 r13 = some w14 ∧ ((((w14.1 11 1) ≤ x8) → (kx9 x7 x8)) ∧ ((¬ (w14.1 11 1) ≤ x8) → (∃ r16 : Nat, oF σ4 a 0 0 (.ref r16) ∧ (∃ w17 : MS × List Int32, σ4.2.1 r16 = some w17 ∧ (∃ w18 : MS × List Int32, σ4.2.1 r16 = some w18 ∧ vp_in x8 12 ∧ (jn (fun (x21 : Int32) => (wp_X1_meanGrowth_L16 kx9 σ4 a F (x7 + x21) (x8 + 1))) (fun kj20 => (((¬ (w18.1 6 x8.toNatClampNeg) = 5) → (kj20 0)) ∧ (((w18.1 6 x8.toNatClampNeg) = 5) → (∃ r22 : Nat, oF σ4 a 0 0 (.ref r22) ∧ (∃ w23 : MS × List Int32, σ4.2.1 r22 = some w23 ∧ (∃ w24 : MS × List Int32, σ4.2.1 r22 = some w24 ∧ vp_in x8 12 ∧ (kj20 (w24.1 3 x8.toNatClampNeg))))))))))))))))
def wp_X1_meanGrowth (a : Nat) (σ : OS) (Q : UInt64 → OS → Prop) : Prop := (∃ r1 : Nat, oF σ a 0 0 (.ref r1) ∧ (∃ w2 : MS × List Int32, σ.2.1 r1 = some w2 ∧ wp_X2_set 5 (w2.1, w2.2, σ.2.2.1) (fun v5 s3 => ∀ σ4 : OS, σ4 = oHc σ r1 s3 → (wp_J16_bitCount v5 (fun v6 => (jn (fun (x10 : Int32) (x11 : Int32) => (((¬ v6 = 0) → (vf_n64 (FP.ddiv (FP.i2d x10) (FP.i2d v6)) ∧ (Q (FP.ddiv (FP.i2d x10) (FP.i2d v6)) σ4))) ∧ ((v6 = 0) → (Q (FP.dconst0) σ4)))) (fun kx9 => wp_X1_meanGrowth_L16 kx9 σ4 a mF 0 0)))))))
theorem sg_X1_meanGrowth : aSig yX1_meanGrowth 0 := by decide +kernel
set_option maxHeartbeats 4000000 in
theorem ct_X1_meanGrowth (l : Launch) (G : aG) (a : Nat) (E : Nat → Prop) (σ : OS) (Q : UInt64 → OS → Prop) (hw : wp_X1_meanGrowth a σ Q) (h0 : AH) (n0 u0 : Nat) (hB : OB h0 n0 E σ) : CT l yX1_meanGrowth (ws_ yX1_meanGrowth cX1_meanGrowth 4 (some .double)) 2 G [.ref a] h0 n0 u0 σ.2.2.1 (10 * σ.2.2.1) (o_pd Q h0 n0 u0 E σ.2.2.1) := by
  refine CT.intro [some (.ref a), none, none, none] pn_RX1 rfl (Nat.le_of_ble_eq_true rfl) ?_
  intro p e s m args below meth c C hz hu
  have hs : s.heap.size = n0 ∧ slT s.heap = u0 := ⟨hz, hu⟩
  refine a_world (V1 := OW h0 n0 u0 E σ.2.2.1 σ) (OW.start hB) ?_
  unfold wp_X1_meanGrowth at hw
  refine a_iconst (pc := 0) C dX1_meanGrowth_0 ic_0 ?_
  refine a_istore_1 (pc := 1) C dX1_meanGrowth_1 (by decide) rfl ?_
  refine a_aload_0 (pc := 2) C dX1_meanGrowth_2 ?_
  obtain ⟨r1, fr1, hw⟩ := hw
  refine a_getf (pc := 3) C (ref := "MaltDrums") in_X1 (ci := 0) rfl 0 (by decide) q299 rfl (fun h n u hV => o_fld fr1 hV) dX1_meanGrowth_3 ?_
  refine a_iconst (pc := 6) C dX1_meanGrowth_6 ic_5 ?_
  obtain ⟨w2, yw2, hw⟩ := hw
  refine o_callHi (pc := 7) C hs [.int 5] (st := []) yw2 (fun h n u hV => ct_X2_set l G _ _ _ _ hw h n u hV) (by decide) (by decide) q66 q1009 q1010 q1011 (lw_meth q1012) sg_X2_set (Nat.le_of_ble_eq_true rfl) dX1_meanGrowth_7 (fun v5 s3 hw => o_top (fun σ4 eσ4 => ?_))
  have hw := hw σ4 eσ4
  refine o_callSp (pc := 10) C hs [.int v5] (st := []) (fun h n u => ct_J16_bitCount l G _ _ hw h n u) (by decide) (by decide) (lw_S q1210 q1211 q89 q1212) sg_J16_bitCount (Nat.le_of_ble_eq_true rfl) dX1_meanGrowth_10 (fun v6 hw => ?_)
  refine a_istore_2 (pc := 13) C dX1_meanGrowth_13 (by decide) rfl ?_
  refine a_iconst (pc := 14) C dX1_meanGrowth_14 ic_0 ?_
  refine a_istore_3 (pc := 15) C dX1_meanGrowth_15 (by decide) rfl ?_
  refine jn_use hw (fun kx9 ekx9 hw => ?_)
  have hkx9 : ∀ (x10 : Int32) (x11 : Int32), kx9 x10 x11 → AW G p l e (aRm 2 σ.2.2.1 (10 * σ.2.2.1)) s m args below meth c (a_A h0 n0) 4 (MQ below (a_Qc G (o_pd Q h0 n0 u0 E σ.2.2.1) (a_A h0 n0)) args s σ.2.2.1 (10 * σ.2.2.1) (a_A h0 n0)) (OW h0 n0 u0 E σ.2.2.1 σ4) 62 [some (.ref a), some (.int x10), some (.int v6), some (.int x11)] [] := by
    intro x10 x11 hw
    rw [ekx9] at hw
    refine a_iload_2 (pc := 62) C dX1_meanGrowth_62 ?_
    refine a_if_ne (pc := 63) C 70 dX1_meanGrowth_63 (by decide) (fun c12 => ?_) (fun c12 => ?_)
    · have hw := hw.1 c12
      refine a_iload_1 (pc := 70) C dX1_meanGrowth_70 ?_
      refine a_i2d (pc := 71) C dX1_meanGrowth_71 ?_
      refine a_iload_2 (pc := 72) C dX1_meanGrowth_72 ?_
      refine a_i2d (pc := 73) C dX1_meanGrowth_73 ?_
      refine a_ddiv (pc := 74) C dX1_meanGrowth_74 hw.1 ?_
      have hw := hw.2
      exact a_dret C dX1_meanGrowth_75 (fun h n u hV => ⟨⟨(_, _), rfl, hw, hV⟩, o_end hs hV⟩)
    · have hw := hw.2 c12
      refine a_dconst0 (pc := 66) C dX1_meanGrowth_66 ?_
      refine a_goto (pc := 67) C 75 dX1_meanGrowth_67 (by decide) ?_
      exact a_dret C dX1_meanGrowth_75 (fun h n u hV => ⟨⟨(_, _), rfl, hw, hV⟩, o_end hs hV⟩)
  have lp16 : ∀ (F : Nat) (x7 : Int32) (x8 : Int32), wp_X1_meanGrowth_L16 kx9 σ4 a F x7 x8 → AW G p l e (aRm 2 σ.2.2.1 (10 * σ.2.2.1)) s m args below meth c (a_A h0 n0) 4 (MQ below (a_Qc G (o_pd Q h0 n0 u0 E σ.2.2.1) (a_A h0 n0)) args s σ.2.2.1 (10 * σ.2.2.1) (a_A h0 n0)) (OW h0 n0 u0 E σ.2.2.1 σ4) 16 [some (.ref a), some (.int x7), some (.int v6), some (.int x8)] [] := by
    intro F
    induction F with
    | zero => intro x7 x8 hw; exact False.elim hw
    | succ F ih =>
      intro x7 x8 hw
      rw [wp_X1_meanGrowth_L16] at hw
      refine a_iload_3 (pc := 16) C dX1_meanGrowth_16 ?_
      refine a_aload_0 (pc := 17) C dX1_meanGrowth_17 ?_
      obtain ⟨r13, fr13, hw⟩ := hw
      refine a_getf (pc := 18) C (ref := "MaltDrums") in_X1 (ci := 0) rfl 0 (by decide) q299 rfl (fun h n u hV => o_fld fr13 hV) dX1_meanGrowth_18 ?_
      obtain ⟨w14, yw14, hw⟩ := hw
      refine a_getfN (pc := 21) C (ref := "MaltDrums$House") (v := .int (w14.1 11 1)) in_X2 (ci := 1) rfl 11 (by decide) q179 rfl (fun h n u hV => o_hfld yw14 (fun _ => rfl) hV) dX1_meanGrowth_21 ?_
      refine a_icmp_ge (pc := 24) C 62 dX1_meanGrowth_24 (by decide) (fun c15 => ?_) (fun c15 => ?_)
      · have hw := hw.1 c15
        exact hkx9 _ _ hw
      · have hw := hw.2 c15
        refine a_iload_1 (pc := 27) C dX1_meanGrowth_27 ?_
        refine a_aload_0 (pc := 28) C dX1_meanGrowth_28 ?_
        obtain ⟨r16, fr16, hw⟩ := hw
        refine a_getf (pc := 29) C (ref := "MaltDrums") in_X1 (ci := 0) rfl 0 (by decide) q299 rfl (fun h n u hV => o_fld fr16 hV) dX1_meanGrowth_29 ?_
        obtain ⟨w17, yw17, hw⟩ := hw
        refine a_getfN (pc := 32) C (ref := "MaltDrums$House") (v := .ref (r16 + 1 + 6)) in_X2 (ci := 1) rfl 6 (by decide) q170 rfl (fun h n u hV => o_hfld yw17 (fun _ => rfl) hV) dX1_meanGrowth_32 ?_
        refine a_iload_3 (pc := 35) C dX1_meanGrowth_35 ?_
        obtain ⟨w18, yw18, iw18, hw⟩ := hw
        refine o_hiald (pc := 36) C yw18 (by decide) iw18 dX1_meanGrowth_36 ?_
        refine a_iconst (pc := 37) C dX1_meanGrowth_37 ic_5 ?_
        refine jn_use hw (fun kj20 ekj20 hw => ?_)
        have hkj20 : ∀ (x21 : Int32), kj20 x21 → AW G p l e (aRm 2 σ.2.2.1 (10 * σ.2.2.1)) s m args below meth c (a_A h0 n0) 4 (MQ below (a_Qc G (o_pd Q h0 n0 u0 E σ.2.2.1) (a_A h0 n0)) args s σ.2.2.1 (10 * σ.2.2.1) (a_A h0 n0)) (OW h0 n0 u0 E σ.2.2.1 σ4) 54 [some (.ref a), some (.int x7), some (.int v6), some (.int x8)] [.int x21, .int x7] := by
          intro x21 hw
          rw [ekj20] at hw
          refine a_iadd (pc := 54) C dX1_meanGrowth_54 ?_
          refine a_istore_1 (pc := 55) C dX1_meanGrowth_55 (by decide) rfl ?_
          refine a_iinc_3 (pc := 56) (v := 1) C dX1_meanGrowth_56 (by decide) (by decide) rfl ?_
          refine a_goto (pc := 59) C 16 dX1_meanGrowth_59 (by decide) ?_
          exact ih _ _ hw
        refine a_icmp_ne (pc := 38) C 53 dX1_meanGrowth_38 (by decide) (fun c19 => ?_) (fun c19 => ?_)
        · have hw := hw.1 c19
          refine a_iconst (pc := 53) C dX1_meanGrowth_53 ic_0 ?_
          exact hkj20 _ hw
        · have hw := hw.2 c19
          refine a_aload_0 (pc := 41) C dX1_meanGrowth_41 ?_
          obtain ⟨r22, fr22, hw⟩ := hw
          refine a_getf (pc := 42) C (ref := "MaltDrums") in_X1 (ci := 0) rfl 0 (by decide) q299 rfl (fun h n u hV => o_fld fr22 hV) dX1_meanGrowth_42 ?_
          obtain ⟨w23, yw23, hw⟩ := hw
          refine a_getfN (pc := 45) C (ref := "MaltDrums$House") (v := .ref (r22 + 1 + 3)) in_X2 (ci := 1) rfl 3 (by decide) q164 rfl (fun h n u hV => o_hfld yw23 (fun _ => rfl) hV) dX1_meanGrowth_45 ?_
          refine a_iload_3 (pc := 48) C dX1_meanGrowth_48 ?_
          obtain ⟨w24, yw24, iw24, hw⟩ := hw
          refine o_hiald (pc := 49) C yw24 (by decide) iw24 dX1_meanGrowth_49 ?_
          refine a_goto (pc := 50) C 54 dX1_meanGrowth_50 (by decide) ?_
          exact hkj20 _ hw
  exact lp16 mF _ _ hw
def wp_X1_meanHeat_L6 (kx5 : Int32 → Int32 → Int32 → OS → Prop) (a : Nat) : Nat → Int32 → Int32 → Int32 → OS → Prop
  | 0, _, _, _, _ => False
  | F + 1, x1, x2, x3, σ4 => (∃ r11 : Nat, oF σ4 a 0 0 (.ref r11) ∧ (∃ w12 : MS × List Int32, σ4.2.1 r11 = some w12 ∧ ((((w12.1 11 1) ≤ x3) → (kx5 x1 x2 x3 σ4)) ∧ ((¬ (w12.1 11 1) ≤ x3) → (∃ r14 : Nat, oF σ4 a 0 0 (.ref r14) ∧ (∃ w15 : MS × List Int32, σ4.2.1 r14 = some w15 ∧ wp_X2_isGrowing x3 (w15.1, w15.2, σ4.2.2.1) (fun v18 s16 => ∀ σ17 : OS, σ17 = oHc σ4 r14 s16 → (jn (fun (x21 : Int32) => (∃ r22 : Nat, oF σ17 a 0 0 (.ref r22) ∧ (∃ w23 : MS × List Int32, σ17.2.1 r22 = some w23 ∧ wp_X2_isGrowing x3 (w23.1, w23.2, σ17.2.2.1) (fun v26 s24 => ∀ σ25 : OS, σ25 = oHc σ17 r22 s24 → (jn (fun (x29 : Int32) => (wp_X1_meanHeat_L6 kx5 a F (x1 + x21) (x2 + x29) (x3 + 1) σ25)) (fun kj28 => (((v26 = 0) → (kj28 0)) ∧ ((¬ v26 = 0) → (kj28 1))))))))) (fun kj20 => (((v18 = 0) → (kj20 0)) ∧ ((¬ v18 = 0) → (∃ r30 : Nat, oF σ17 a 0 0 (.ref r30) ∧ (∃ w31 : MS × List Int32, σ17.2.1 r30 = some w31 ∧ (∃ w32 : MS × List Int32, σ17.2.1 r30 = some w32 ∧ vp_in x3 12 ∧ (kj20 (w32.1 4 x3.toNatClampNeg))))))))))))))))
def wp_X1_meanHeat (a : Nat) (σ : OS) (Q : UInt64 → OS → Prop) : Prop := (jn (fun (x6 : Int32) (x7 : Int32) (x8 : Int32) (σ9 : OS) => (((¬ x7 = 0) → (vf_n64 (FP.ddiv (FP.i2d x6) (FP.i2d x7)) ∧ (Q (FP.ddiv (FP.i2d x6) (FP.i2d x7)) σ9))) ∧ ((x7 = 0) → (Q (FP.dconst0) σ9)))) (fun kx5 => wp_X1_meanHeat_L6 kx5 a mF 0 0 0 σ))
theorem sg_X1_meanHeat : aSig yX1_meanHeat 0 := by decide +kernel
set_option maxHeartbeats 4000000 in
theorem ct_X1_meanHeat (l : Launch) (G : aG) (a : Nat) (E : Nat → Prop) (σ : OS) (Q : UInt64 → OS → Prop) (hw : wp_X1_meanHeat a σ Q) (h0 : AH) (n0 u0 : Nat) (hB : OB h0 n0 E σ) : CT l yX1_meanHeat (ws_ yX1_meanHeat cX1_meanHeat 4 (some .double)) 2 G [.ref a] h0 n0 u0 σ.2.2.1 (10 * σ.2.2.1) (o_pd Q h0 n0 u0 E σ.2.2.1) := by
  refine CT.intro [some (.ref a), none, none, none] pn_RX1 rfl (Nat.le_of_ble_eq_true rfl) ?_
  intro p e s m args below meth c C hz hu
  have hs : s.heap.size = n0 ∧ slT s.heap = u0 := ⟨hz, hu⟩
  refine a_world (V1 := OW h0 n0 u0 E σ.2.2.1 σ) (OW.start hB) ?_
  unfold wp_X1_meanHeat at hw
  refine a_iconst (pc := 0) C dX1_meanHeat_0 ic_0 ?_
  refine a_istore_1 (pc := 1) C dX1_meanHeat_1 (by decide) rfl ?_
  refine a_iconst (pc := 2) C dX1_meanHeat_2 ic_0 ?_
  refine a_istore_2 (pc := 3) C dX1_meanHeat_3 (by decide) rfl ?_
  refine a_iconst (pc := 4) C dX1_meanHeat_4 ic_0 ?_
  refine a_istore_3 (pc := 5) C dX1_meanHeat_5 (by decide) rfl ?_
  refine jn_use hw (fun kx5 ekx5 hw => ?_)
  have hkx5 : ∀ (x6 : Int32) (x7 : Int32) (x8 : Int32) (σ9 : OS), kx5 x6 x7 x8 σ9 → AW G p l e (aRm 2 σ.2.2.1 (10 * σ.2.2.1)) s m args below meth c (a_A h0 n0) 4 (MQ below (a_Qc G (o_pd Q h0 n0 u0 E σ.2.2.1) (a_A h0 n0)) args s σ.2.2.1 (10 * σ.2.2.1) (a_A h0 n0)) (OW h0 n0 u0 E σ.2.2.1 σ9) 69 [some (.ref a), some (.int x6), some (.int x7), some (.int x8)] [] := by
    intro x6 x7 x8 σ9 hw
    rw [ekx5] at hw
    refine a_iload_2 (pc := 69) C dX1_meanHeat_69 ?_
    refine a_if_ne (pc := 70) C 77 dX1_meanHeat_70 (by decide) (fun c10 => ?_) (fun c10 => ?_)
    · have hw := hw.1 c10
      refine a_iload_1 (pc := 77) C dX1_meanHeat_77 ?_
      refine a_i2d (pc := 78) C dX1_meanHeat_78 ?_
      refine a_iload_2 (pc := 79) C dX1_meanHeat_79 ?_
      refine a_i2d (pc := 80) C dX1_meanHeat_80 ?_
      refine a_ddiv (pc := 81) C dX1_meanHeat_81 hw.1 ?_
      have hw := hw.2
      exact a_dret C dX1_meanHeat_82 (fun h n u hV => ⟨⟨(_, _), rfl, hw, hV⟩, o_end hs hV⟩)
    · have hw := hw.2 c10
      refine a_dconst0 (pc := 73) C dX1_meanHeat_73 ?_
      refine a_goto (pc := 74) C 82 dX1_meanHeat_74 (by decide) ?_
      exact a_dret C dX1_meanHeat_82 (fun h n u hV => ⟨⟨(_, _), rfl, hw, hV⟩, o_end hs hV⟩)
  have lp6 : ∀ (F : Nat) (x1 : Int32) (x2 : Int32) (x3 : Int32) (σ4 : OS), wp_X1_meanHeat_L6 kx5 a F x1 x2 x3 σ4 → AW G p l e (aRm 2 σ.2.2.1 (10 * σ.2.2.1)) s m args below meth c (a_A h0 n0) 4 (MQ below (a_Qc G (o_pd Q h0 n0 u0 E σ.2.2.1) (a_A h0 n0)) args s σ.2.2.1 (10 * σ.2.2.1) (a_A h0 n0)) (OW h0 n0 u0 E σ.2.2.1 σ4) 6 [some (.ref a), some (.int x1), some (.int x2), some (.int x3)] [] := by
    intro F
    induction F with
    | zero => intro x1 x2 x3 σ4 hw; exact False.elim hw
    | succ F ih =>
      intro x1 x2 x3 σ4 hw
      rw [wp_X1_meanHeat_L6] at hw
      refine a_iload_3 (pc := 6) C dX1_meanHeat_6 ?_
      refine a_aload_0 (pc := 7) C dX1_meanHeat_7 ?_
      obtain ⟨r11, fr11, hw⟩ := hw
      refine a_getf (pc := 8) C (ref := "MaltDrums") in_X1 (ci := 0) rfl 0 (by decide) q299 rfl (fun h n u hV => o_fld fr11 hV) dX1_meanHeat_8 ?_
      obtain ⟨w12, yw12, hw⟩ := hw
      refine a_getfN (pc := 11) C (ref := "MaltDrums$House") (v := .int (w12.1 11 1)) in_X2 (ci := 1) rfl 11 (by decide) q179 rfl (fun h n u hV => o_hfld yw12 (fun _ => rfl) hV) dX1_meanHeat_11 ?_
      refine a_icmp_ge (pc := 14) C 69 dX1_meanHeat_14 (by decide) (fun c13 => ?_) (fun c13 => ?_)
      · have hw := hw.1 c13
        exact hkx5 _ _ _ _ hw
      · have hw := hw.2 c13
        refine a_iload_1 (pc := 17) C dX1_meanHeat_17 ?_
        refine a_aload_0 (pc := 18) C dX1_meanHeat_18 ?_
        obtain ⟨r14, fr14, hw⟩ := hw
        refine a_getf (pc := 19) C (ref := "MaltDrums") in_X1 (ci := 0) rfl 0 (by decide) q299 rfl (fun h n u hV => o_fld fr14 hV) dX1_meanHeat_19 ?_
        refine a_iload_3 (pc := 22) C dX1_meanHeat_22 ?_
        obtain ⟨w15, yw15, hw⟩ := hw
        refine o_callHi (pc := 23) C hs [.int x3] (st := [.int x1]) yw15 (fun h n u hV => ct_X2_isGrowing l G _ _ _ _ hw h n u hV) (by decide) (by decide) q66 q1220 q1057 q1058 (lw_meth q1059) sg_X2_isGrowing (Nat.le_of_ble_eq_true rfl) dX1_meanHeat_23 (fun v18 s16 hw => o_top (fun σ17 eσ17 => ?_))
        have hw := hw σ17 eσ17
        refine jn_use hw (fun kj20 ekj20 hw => ?_)
        have hkj20 : ∀ (x21 : Int32), kj20 x21 → AW G p l e (aRm 2 σ.2.2.1 (10 * σ.2.2.1)) s m args below meth c (a_A h0 n0) 4 (MQ below (a_Qc G (o_pd Q h0 n0 u0 E σ.2.2.1) (a_A h0 n0)) args s σ.2.2.1 (10 * σ.2.2.1) (a_A h0 n0)) (OW h0 n0 u0 E σ.2.2.1 σ17) 42 [some (.ref a), some (.int x1), some (.int x2), some (.int x3)] [.int x21, .int x1] := by
          intro x21 hw
          rw [ekj20] at hw
          refine a_iadd (pc := 42) C dX1_meanHeat_42 ?_
          refine a_istore_1 (pc := 43) C dX1_meanHeat_43 (by decide) rfl ?_
          refine a_iload_2 (pc := 44) C dX1_meanHeat_44 ?_
          refine a_aload_0 (pc := 45) C dX1_meanHeat_45 ?_
          obtain ⟨r22, fr22, hw⟩ := hw
          refine a_getf (pc := 46) C (ref := "MaltDrums") in_X1 (ci := 0) rfl 0 (by decide) q299 rfl (fun h n u hV => o_fld fr22 hV) dX1_meanHeat_46 ?_
          refine a_iload_3 (pc := 49) C dX1_meanHeat_49 ?_
          obtain ⟨w23, yw23, hw⟩ := hw
          refine o_callHi (pc := 50) C hs [.int x3] (st := [.int x2]) yw23 (fun h n u hV => ct_X2_isGrowing l G _ _ _ _ hw h n u hV) (by decide) (by decide) q66 q1220 q1057 q1058 (lw_meth q1059) sg_X2_isGrowing (Nat.le_of_ble_eq_true rfl) dX1_meanHeat_50 (fun v26 s24 hw => o_top (fun σ25 eσ25 => ?_))
          have hw := hw σ25 eσ25
          refine jn_use hw (fun kj28 ekj28 hw => ?_)
          have hkj28 : ∀ (x29 : Int32), kj28 x29 → AW G p l e (aRm 2 σ.2.2.1 (10 * σ.2.2.1)) s m args below meth c (a_A h0 n0) 4 (MQ below (a_Qc G (o_pd Q h0 n0 u0 E σ.2.2.1) (a_A h0 n0)) args s σ.2.2.1 (10 * σ.2.2.1) (a_A h0 n0)) (OW h0 n0 u0 E σ.2.2.1 σ25) 61 [some (.ref a), some (.int (x1 + x21)), some (.int x2), some (.int x3)] [.int x29, .int x2] := by
            intro x29 hw
            rw [ekj28] at hw
            refine a_iadd (pc := 61) C dX1_meanHeat_61 ?_
            refine a_istore_2 (pc := 62) C dX1_meanHeat_62 (by decide) rfl ?_
            refine a_iinc_3 (pc := 63) (v := 1) C dX1_meanHeat_63 (by decide) (by decide) rfl ?_
            refine a_goto (pc := 66) C 6 dX1_meanHeat_66 (by decide) ?_
            exact ih _ _ _ _ hw
          refine a_if_eq (pc := 53) C 60 dX1_meanHeat_53 (by decide) (fun c27 => ?_) (fun c27 => ?_)
          · have hw := hw.1 c27
            refine a_iconst (pc := 60) C dX1_meanHeat_60 ic_0 ?_
            exact hkj28 _ hw
          · have hw := hw.2 c27
            refine a_iconst (pc := 56) C dX1_meanHeat_56 ic_1 ?_
            refine a_goto (pc := 57) C 61 dX1_meanHeat_57 (by decide) ?_
            exact hkj28 _ hw
        refine a_if_eq (pc := 26) C 41 dX1_meanHeat_26 (by decide) (fun c19 => ?_) (fun c19 => ?_)
        · have hw := hw.1 c19
          refine a_iconst (pc := 41) C dX1_meanHeat_41 ic_0 ?_
          exact hkj20 _ hw
        · have hw := hw.2 c19
          refine a_aload_0 (pc := 29) C dX1_meanHeat_29 ?_
          obtain ⟨r30, fr30, hw⟩ := hw
          refine a_getf (pc := 30) C (ref := "MaltDrums") in_X1 (ci := 0) rfl 0 (by decide) q299 rfl (fun h n u hV => o_fld fr30 hV) dX1_meanHeat_30 ?_
          obtain ⟨w31, yw31, hw⟩ := hw
          refine a_getfN (pc := 33) C (ref := "MaltDrums$House") (v := .ref (r30 + 1 + 4)) in_X2 (ci := 1) rfl 4 (by decide) q166 rfl (fun h n u hV => o_hfld yw31 (fun _ => rfl) hV) dX1_meanHeat_33 ?_
          refine a_iload_3 (pc := 36) C dX1_meanHeat_36 ?_
          obtain ⟨w32, yw32, iw32, hw⟩ := hw
          refine o_hiald (pc := 37) C yw32 (by decide) iw32 dX1_meanHeat_37 ?_
          refine a_goto (pc := 38) C 42 dX1_meanHeat_38 (by decide) ?_
          exact hkj20 _ hw
  exact lp6 mF _ _ _ _ hw
def wp_X1_needArgument (p1 : Int32) (σ : OS) (Q : OS → Prop) (X : Nat → OS → Prop) : Prop := (((¬ p1 = 0) → (Q σ)) ∧ ((p1 = 0) → (1 ≤ σ.2.2.1 ∧ X 1 (oXs σ 0))))
theorem sg_X1_needArgument : aSig yX1_needArgument 1 := by decide +kernel
set_option maxHeartbeats 4000000 in
theorem ct_X1_needArgument (l : Launch) (G : aG) (p1 : Int32) (E : Nat → Prop) (σ : OS) (Q : OS → Prop) (X : Nat → OS → Prop) (hw : wp_X1_needArgument p1 σ Q X) (h0 : AH) (n0 u0 : Nat) (hB : OB h0 n0 E σ) : CTX l yX1_needArgument (ws_ yX1_needArgument cX1_needArgument 1 none) 6 G [.int p1] h0 n0 u0 σ.2.2.1 (10 * σ.2.2.1) (o_pv Q h0 n0 u0 E σ.2.2.1) (o_px X h0 E) := by
  refine CTX.intro [some (.int p1)] pn_RX1 rfl (Nat.le_of_ble_eq_true rfl) ?_
  intro p e s m args below meth c C hz hu ht
  have hs : s.heap.size = n0 ∧ slT s.heap = u0 := ⟨hz, hu⟩
  refine a_world (V1 := OW h0 n0 u0 E σ.2.2.1 σ) (OW.start hB) ?_
  unfold wp_X1_needArgument at hw
  refine a_iload_0 (pc := 0) C dX1_needArgument_0 ?_
  refine a_if_ne (pc := 1) C 14 dX1_needArgument_1 (by decide) (fun c1 => ?_) (fun c1 => ?_)
  · have hw := hw.1 c1
    exact a_xret (a_vret C dX1_needArgument_14 (fun h n u hV => ⟨⟨_, rfl, hw, hV⟩, o_end hs hV⟩))
  · have hw := hw.2 c1
    exact a_throwS (pc := 4) C (cls := "java/lang/IllegalArgumentException") (names := ["java/lang/RuntimeException", "java/lang/Exception"]) (by decide +kernel) (by decide +kernel) q1234 q81 ((C.SC.2.2.2.2.2.2 23 _ rfl).1) (hat_IA C) hgo_IA (by decide) (by decide) dX1_needArgument_4 dX1_needArgument_7 dX1_needArgument_8 dX1_needArgument_10 dX1_needArgument_13 (fun x hx => (ht x hx).elim) (Nat.le_of_ble_eq_true rfl) (fun h n u hV => ⟨(o_roomN hs (N := 6) (c := 1) (by decide) (by decide) hw.1 h n u hV).1, (o_roomN hs (N := 6) (c := 1) (by decide) (by decide) hw.1 h n u hV).2, ⟨1, _, rfl, hw.2, hV.1.same rfl rfl rfl, hV.2.2.2.2.2.1⟩⟩)
def wp_X1_needState (p1 : Int32) (σ : OS) (Q : OS → Prop) (X : Nat → OS → Prop) : Prop := (((¬ p1 = 0) → (Q σ)) ∧ ((p1 = 0) → (1 ≤ σ.2.2.1 ∧ X 2 (oXs σ 0))))
theorem sg_X1_needState : aSig yX1_needState 1 := by decide +kernel
set_option maxHeartbeats 4000000 in
theorem ct_X1_needState (l : Launch) (G : aG) (p1 : Int32) (E : Nat → Prop) (σ : OS) (Q : OS → Prop) (X : Nat → OS → Prop) (hw : wp_X1_needState p1 σ Q X) (h0 : AH) (n0 u0 : Nat) (hB : OB h0 n0 E σ) : CTX l yX1_needState (ws_ yX1_needState cX1_needState 1 none) 6 G [.int p1] h0 n0 u0 σ.2.2.1 (10 * σ.2.2.1) (o_pv Q h0 n0 u0 E σ.2.2.1) (o_px X h0 E) := by
  refine CTX.intro [some (.int p1)] pn_RX1 rfl (Nat.le_of_ble_eq_true rfl) ?_
  intro p e s m args below meth c C hz hu ht
  have hs : s.heap.size = n0 ∧ slT s.heap = u0 := ⟨hz, hu⟩
  refine a_world (V1 := OW h0 n0 u0 E σ.2.2.1 σ) (OW.start hB) ?_
  unfold wp_X1_needState at hw
  refine a_iload_0 (pc := 0) C dX1_needState_0 ?_
  refine a_if_ne (pc := 1) C 14 dX1_needState_1 (by decide) (fun c1 => ?_) (fun c1 => ?_)
  · have hw := hw.1 c1
    exact a_xret (a_vret C dX1_needState_14 (fun h n u hV => ⟨⟨_, rfl, hw, hV⟩, o_end hs hV⟩))
  · have hw := hw.2 c1
    exact a_throwS (pc := 4) C (cls := "java/lang/IllegalStateException") (names := ["java/lang/RuntimeException", "java/lang/Exception"]) (by decide +kernel) (by decide +kernel) q1240 q82 ((C.SC.2.2.2.2.2.2 24 _ rfl).1) (hat_IS C) hgo_IS (by decide) (by decide) dX1_needState_4 dX1_needState_7 dX1_needState_8 dX1_needState_10 dX1_needState_13 (fun x hx => (ht x hx).elim) (Nat.le_of_ble_eq_true rfl) (fun h n u hV => ⟨(o_roomN hs (N := 6) (c := 1) (by decide) (by decide) hw.1 h n u hV).1, (o_roomN hs (N := 6) (c := 1) (by decide) (by decide) hw.1 h n u hV).2, ⟨2, _, rfl, hw.2, hV.1.same rfl rfl rfl, hV.2.2.2.2.2.1⟩⟩)
def wp_X1_save (a : Nat) (σ : OS) (Q : OS → Prop) : Prop := (∃ r1 : Nat, oF σ a 0 2 (.ref r1) ∧ (oC σ r1 9 ∧ wp_J2_size r1 σ (fun v3 σ2 => (jn (fun (σ6 : OS) => (∃ r7 : Nat, oF σ6 a 0 2 (.ref r7) ∧ (∃ r8 : Nat, oF σ6 a 0 0 (.ref r8) ∧ (oC σ6 r7 9 ∧ wp_J2_addLast r7 r8 σ6 (fun σ9 => (3 ≤ σ9.2.2.1 ∧ ∀ q10 : Nat, oFr σ9 q10 → (σ9.2.2.2.1 ≠ 0 → q10 = σ9.2.2.2.1) → ∀ σ11 : OS, σ11 = oNew σ9 q10 3 (.inr (1, [.null, .null, .null, .null, .null, .null, .null, .null, .null, .null, .int 0, .int 0, .int 0, .int 0, .int 0, .int 0, .int 0, .int 0, .int 0, .int 0, .int 0, .int 0])) → (∃ r12 : Nat, oF σ11 a 0 0 (.ref r12) ∧ wp_X2_init_2 q10 r12 σ11 (fun σ13 => (∃ (y : MS) (L : List Int32), oHouse σ13 q10 y L ∧ ∀ σ14 : OS, σ14 = oFold σ13 q10 y L → (∃ fs16 : List Value, σ14.1 a = some (.inr (0, fs16)) ∧ 0 < fs16.length ∧ ∀ σ15 : OS, σ15 = (oPut σ14 a (.inr (0, fs16.set 0 (.ref q10)))) → (Q σ15))))))))))) (fun kj5 => (((¬ v3 = 5) → (kj5 σ2)) ∧ ((v3 = 5) → (∃ r17 : Nat, oF σ2 a 0 2 (.ref r17) ∧ (oC σ2 r17 9 ∧ wp_J2_removeFirst r17 σ2 (fun r19 σ18 => (kj5 σ18)))))))))))
theorem sg_X1_save : aSig yX1_save 0 := by decide +kernel
set_option maxHeartbeats 4000000 in
theorem ct_X1_save (l : Launch) (G : aG) (a : Nat) (E : Nat → Prop) (σ : OS) (Q : OS → Prop) (hw : wp_X1_save a σ Q) (h0 : AH) (n0 u0 : Nat) (hB : OB h0 n0 E σ) : CT l yX1_save (ws_ yX1_save cX1_save 1 none) 6 G [.ref a] h0 n0 u0 σ.2.2.1 (10 * σ.2.2.1) (o_pv Q h0 n0 u0 E σ.2.2.1) := by
  refine CT.intro [some (.ref a)] pn_RX1 rfl (Nat.le_of_ble_eq_true rfl) ?_
  intro p e s m args below meth c C hz hu
  have hs : s.heap.size = n0 ∧ slT s.heap = u0 := ⟨hz, hu⟩
  refine a_world (V1 := OW h0 n0 u0 E σ.2.2.1 σ) (OW.start hB) ?_
  unfold wp_X1_save at hw
  refine a_aload_0 (pc := 0) C dX1_save_0 ?_
  obtain ⟨r1, fr1, hw⟩ := hw
  refine a_getf (pc := 1) C (ref := "MaltDrums") in_X1 (ci := 0) rfl 2 (by decide) q301 rfl (fun h n u hV => o_fld fr1 hV) dX1_save_1 ?_
  refine o_callVi (pc := 4) C hs [] (b := r1) (ci := 9) (st := []) (fun h n u hB => ct_J2_size l G r1 E _ _ hw.2 h n u hB) (by decide) (by decide) rfl hw.1 q72 q960 q961 q962 (lw_meth q963) sg_J2_size (Nat.le_of_ble_eq_true rfl) dX1_save_4 (fun v3 σ2 hw => ?_)
  refine a_iconst (pc := 7) C dX1_save_7 ic_5 ?_
  refine jn_use hw (fun kj5 ekj5 hw => ?_)
  have hkj5 : ∀ (σ6 : OS), kj5 σ6 → AW G p l e (aRm 6 σ.2.2.1 (10 * σ.2.2.1)) s m args below meth c (a_A h0 n0) 1 (MQ below (a_Qc G (o_pv Q h0 n0 u0 E σ.2.2.1) (a_A h0 n0)) args s σ.2.2.1 (10 * σ.2.2.1) (a_A h0 n0)) (OW h0 n0 u0 E σ.2.2.1 σ6) 19 [some (.ref a)] [] := by
    intro σ6 hw
    rw [ekj5] at hw
    refine a_aload_0 (pc := 19) C dX1_save_19 ?_
    obtain ⟨r7, fr7, hw⟩ := hw
    refine a_getf (pc := 20) C (ref := "MaltDrums") in_X1 (ci := 0) rfl 2 (by decide) q301 rfl (fun h n u hV => o_fld fr7 hV) dX1_save_20 ?_
    refine a_aload_0 (pc := 23) C dX1_save_23 ?_
    obtain ⟨r8, fr8, hw⟩ := hw
    refine a_getf (pc := 24) C (ref := "MaltDrums") in_X1 (ci := 0) rfl 0 (by decide) q299 rfl (fun h n u hV => o_fld fr8 hV) dX1_save_24 ?_
    refine o_callVv (pc := 27) C hs [.ref r8] (b := r7) (ci := 9) (st := []) (fun h n u hB => ct_J2_addLast l G r7 _ E _ _ hw.2 h n u hB) (by decide) (by decide) rfl hw.1 q72 q1274 q1275 q1276 (lw_meth q1277) sg_J2_addLast (Nat.le_of_ble_eq_true rfl) dX1_save_27 (fun σ9 hw => ?_)
    refine a_aload_0 (pc := 30) C dX1_save_30 ?_
    refine o_newC (pc := 31) C hs 3 in_X2 tyX2 tyX2_ok q109 q110 q66 (ci := 1) (fs := [.null, .null, .null, .null, .null, .null, .null, .null, .null, .null, .int 0, .int 0, .int 0, .int 0, .int 0, .int 0, .int 0, .int 0, .int 0, .int 0, .int 0, .int 0]) rfl (by decide) (fun f z => by cases z) (by decide) (by decide) hw.1 dX1_save_31 (fun q10 frq10 nxq10 σ11 eσ11 => ?_)
    have hw := hw.2 q10 frq10 nxq10 σ11 eσ11
    refine a_dup (pc := 34) C dX1_save_34 rfl ?_
    refine a_aload_0 (pc := 35) C dX1_save_35 ?_
    obtain ⟨r12, fr12, hw⟩ := hw
    refine a_getf (pc := 36) C (ref := "MaltDrums") in_X1 (ci := 0) rfl 0 (by decide) q299 rfl (fun h n u hV => o_fld fr12 hV) dX1_save_36 ?_
    refine o_callIv (pc := 39) C hs [.ref r12] (b := q10) (st := [.ref q10, .ref a]) (fun h n u hB => ct_X2_init_2 l G q10 _ E _ _ hw h n u hB) (by decide) (by decide) q66 q971 q972 rfl (lw_meth q973) sg_X2_init_2 (Nat.le_of_ble_eq_true rfl) dX1_save_39 (fun σ13 hw => ?_)
    obtain ⟨y, L, hH, hw⟩ := hw
    refine a_world (fun h n u hV => hV.fold hH) ?_
    refine o_top (fun σ14 eσ14 => ?_)
    have hw := hw σ14 eσ14
    obtain ⟨fs16, ffs16, kfs16, hw⟩ := hw
    refine a_putf (pc := 42) C (ref := "MaltDrums") (V1 := OW h0 n0 u0 E σ.2.2.1 (oPut σ14 a (.inr (0, fs16.set 0 (.ref q10))))) in_X1 tyX1 tyX1_ok nmX1 (ci := 0) rfl 0 (by decide) q299 rfl rfl rfl rfl (fun h n u hV => o_put (by decide) ffs16 kfs16 hV) dX1_save_42 (o_top (fun σ15 eσ15 => ?_))
    have hw := hw σ15 eσ15
    exact a_vret C dX1_save_45 (fun h n u hV => ⟨⟨_, rfl, hw, hV⟩, o_end hs hV⟩)
  refine a_icmp_ne (pc := 8) C 19 dX1_save_8 (by decide) (fun c4 => ?_) (fun c4 => ?_)
  · have hw := hw.1 c4
    exact hkj5 _ hw
  · have hw := hw.2 c4
    refine a_aload_0 (pc := 11) C dX1_save_11 ?_
    obtain ⟨r17, fr17, hw⟩ := hw
    refine a_getf (pc := 12) C (ref := "MaltDrums") in_X1 (ci := 0) rfl 2 (by decide) q301 rfl (fun h n u hV => o_fld fr17 hV) dX1_save_12 ?_
    refine o_callVr (pc := 15) C hs [] (b := r17) (ci := 9) (st := []) (fun h n u hB => ct_J2_removeFirst l G r17 E _ _ hw.2 h n u hB) (by decide) (by decide) rfl hw.1 q72 q1260 q1261 q1262 (lw_meth q1263) sg_J2_removeFirst (Nat.le_of_ble_eq_true rfl) dX1_save_15 (fun r19 σ18 hw => ?_)
    refine a_pop (pc := 18) C dX1_save_18 rfl ?_
    exact hkj5 _ hw
def wp_X1_add (a : Nat) (p1 : Int32) (σ : OS) (Q : Int32 → OS → Prop) (X : Nat → OS → Prop) : Prop := (wp_X1_isWithin p1 100 900 (fun v1 => wp_X1_needArgument v1 σ (fun σ2 => (∃ r3 : Nat, oF σ2 a 0 0 (.ref r3) ∧ (∃ w4 : MS × List Int32, σ2.2.1 r3 = some w4 ∧ (jn (fun (x7 : Int32) => wp_X1_needState x7 σ2 (fun σ8 => (oC σ8 a 0 ∧ wp_X1_save a σ8 (fun σ9 => (∃ r10 : Nat, oF σ9 a 0 0 (.ref r10) ∧ (∃ w11 : MS × List Int32, σ9.2.1 r10 = some w11 ∧ wp_X2_add p1 (w11.1, w11.2, σ9.2.2.1) (fun v14 s12 => ∀ σ13 : OS, σ13 = oHc σ9 r10 s12 → (Q v14 σ13))))))) X) (fun kj6 => (((12 ≤ (w4.1 11 1)) → (kj6 0)) ∧ ((¬ 12 ≤ (w4.1 11 1)) → (kj6 1)))))))) X))
theorem sg_X1_add : aSig yX1_add 1 := by decide +kernel
set_option maxHeartbeats 4000000 in
theorem ct_X1_add (l : Launch) (G : aG) (a : Nat) (p1 : Int32) (E : Nat → Prop) (σ : OS) (Q : Int32 → OS → Prop) (X : Nat → OS → Prop) (hw : wp_X1_add a p1 σ Q X) (h0 : AH) (n0 u0 : Nat) (hB : OB h0 n0 E σ) : CTX l yX1_add (ws_ yX1_add cX1_add 2 (some .int)) 7 G [.ref a, .int p1] h0 n0 u0 σ.2.2.1 (10 * σ.2.2.1) (o_pi Q h0 n0 u0 E σ.2.2.1) (o_px X h0 E) := by
  refine CTX.intro [some (.ref a), some (.int p1)] pn_RX1 rfl (Nat.le_of_ble_eq_true rfl) ?_
  intro p e s m args below meth c C hz hu ht
  have hs : s.heap.size = n0 ∧ slT s.heap = u0 := ⟨hz, hu⟩
  refine a_world (V1 := OW h0 n0 u0 E σ.2.2.1 σ) (OW.start hB) ?_
  unfold wp_X1_add at hw
  refine a_iload_1 (pc := 0) C dX1_add_0 ?_
  refine a_bipush (pc := 1) C dX1_add_1 bc_100 ?_
  refine a_sipush (pc := 3) C dX1_add_3 sc_900 ?_
  refine o_callSp (pc := 6) C hs [.int p1, .int 100, .int 900] (st := []) (fun h n u => ct_X1_isWithin l G _ _ _ _ hw h n u) (by decide) (by decide) (lw_S q1230 q856 q65 q857) sg_X1_isWithin (Nat.le_of_ble_eq_true rfl) dX1_add_6 (fun v1 hw => ?_)
  refine o_callXSv (pc := 9) C hs [.int v1] (st := []) (fun h n u hB => ct_X1_needArgument l G _ E _ _ _ hw h n u hB) (by decide) (by decide) (lw_S q1231 q1232 q65 q1233) sg_X1_needArgument (Nat.le_of_ble_eq_true rfl) dX1_add_9 (fun σ2 hw => ?_) (fun k9 σx hx => ?_)
  · refine a_aload_0 (pc := 12) C dX1_add_12 ?_
    obtain ⟨r3, fr3, hw⟩ := hw
    refine a_getf (pc := 13) C (ref := "MaltDrums") in_X1 (ci := 0) rfl 0 (by decide) q299 rfl (fun h n u hV => o_fld fr3 hV) dX1_add_13 ?_
    obtain ⟨w4, yw4, hw⟩ := hw
    refine a_getfN (pc := 16) C (ref := "MaltDrums$House") (v := .int (w4.1 11 1)) in_X2 (ci := 1) rfl 11 (by decide) q179 rfl (fun h n u hV => o_hfld yw4 (fun _ => rfl) hV) dX1_add_16 ?_
    refine a_bipush (pc := 19) C dX1_add_19 bc_12 ?_
    refine jn_use hw (fun kj6 ekj6 hw => ?_)
    have hkj6 : ∀ (x7 : Int32), kj6 x7 → AW G p l e (aRm 7 σ.2.2.1 (10 * σ.2.2.1)) s m args below meth c (a_A h0 n0) 2 (vx_MQ below (a_Qc G (o_pi Q h0 n0 u0 E σ.2.2.1) (a_A h0 n0)) (a_XC G (o_px X h0 E) (a_A h0 n0)) args s σ.2.2.1 (10 * σ.2.2.1) (a_A h0 n0)) (OW h0 n0 u0 E σ.2.2.1 σ2) 29 [some (.ref a), some (.int p1)] [.int x7] := by
      intro x7 hw
      rw [ekj6] at hw
      refine o_callXSv (pc := 29) C hs [.int x7] (st := []) (fun h n u hB => ct_X1_needState l G _ E _ _ _ hw h n u hB) (by decide) (by decide) (lw_S q1237 q1238 q65 q1239) sg_X1_needState (Nat.le_of_ble_eq_true rfl) dX1_add_29 (fun σ8 hw => ?_) (fun k9 σx hx => ?_)
      · refine a_aload_0 (pc := 32) C dX1_add_32 ?_
        refine o_callVv (pc := 33) C hs [] (b := a) (ci := 0) (st := []) (fun h n u hB => ct_X1_save l G a E _ _ hw.2 h n u hB) (by decide) (by decide) rfl hw.1 q65 q1256 q1258 qs22 (lw_meth q1259) sg_X1_save (Nat.le_of_ble_eq_true rfl) dX1_add_33 (fun σ9 hw => ?_)
        refine a_aload_0 (pc := 36) C dX1_add_36 ?_
        obtain ⟨r10, fr10, hw⟩ := hw
        refine a_getf (pc := 37) C (ref := "MaltDrums") in_X1 (ci := 0) rfl 0 (by decide) q299 rfl (fun h n u hV => o_fld fr10 hV) dX1_add_37 ?_
        refine a_iload_1 (pc := 40) C dX1_add_40 ?_
        obtain ⟨w11, yw11, hw⟩ := hw
        refine o_callHi (pc := 41) C hs [.int p1] (st := []) yw11 (fun h n u hV => ct_X2_add l G _ _ _ _ hw h n u hV) (by decide) (by decide) q66 q1293 q1294 q1295 (lw_meth q1296) sg_X2_add (Nat.le_of_ble_eq_true rfl) dX1_add_41 (fun v14 s12 hw => o_top (fun σ13 eσ13 => ?_))
        have hw := hw σ13 eσ13
        exact a_xret (a_iret C dX1_add_44 (fun h n u hV => ⟨⟨(_, _), rfl, hw, hV⟩, o_end hs hV⟩))
      · exact ax_out C (fun x hx => (ht x hx).elim) (fun h n u hV => ⟨⟨k9, σx, rfl, hx, hV.1.same rfl rfl rfl, hV.2.2.2.2.2.1⟩, o_end hs hV⟩)
    refine a_icmp_ge (pc := 21) C 28 dX1_add_21 (by decide) (fun c5 => ?_) (fun c5 => ?_)
    · have hw := hw.1 c5
      refine a_iconst (pc := 28) C dX1_add_28 ic_0 ?_
      exact hkj6 _ hw
    · have hw := hw.2 c5
      refine a_iconst (pc := 24) C dX1_add_24 ic_1 ?_
      refine a_goto (pc := 25) C 29 dX1_add_25 (by decide) ?_
      exact hkj6 _ hw
  · exact ax_out C (fun x hx => (ht x hx).elim) (fun h n u hV => ⟨⟨k9, σx, rfl, hx, hV.1.same rfl rfl rfl, hV.2.2.2.2.2.1⟩, o_end hs hV⟩)
def wp_X1_needThere (p1 : Int32) (σ : OS) (Q : OS → Prop) (X : Nat → OS → Prop) : Prop := (((¬ p1 = 0) → (Q σ)) ∧ ((p1 = 0) → (1 ≤ σ.2.2.1 ∧ X 0 (oXs σ 0))))
theorem sg_X1_needThere : aSig yX1_needThere 1 := by decide +kernel
set_option maxHeartbeats 4000000 in
theorem ct_X1_needThere (l : Launch) (G : aG) (p1 : Int32) (E : Nat → Prop) (σ : OS) (Q : OS → Prop) (X : Nat → OS → Prop) (hw : wp_X1_needThere p1 σ Q X) (h0 : AH) (n0 u0 : Nat) (hB : OB h0 n0 E σ) : CTX l yX1_needThere (ws_ yX1_needThere cX1_needThere 1 none) 6 G [.int p1] h0 n0 u0 σ.2.2.1 (10 * σ.2.2.1) (o_pv Q h0 n0 u0 E σ.2.2.1) (o_px X h0 E) := by
  refine CTX.intro [some (.int p1)] pn_RX1 rfl (Nat.le_of_ble_eq_true rfl) ?_
  intro p e s m args below meth c C hz hu ht
  have hs : s.heap.size = n0 ∧ slT s.heap = u0 := ⟨hz, hu⟩
  refine a_world (V1 := OW h0 n0 u0 E σ.2.2.1 σ) (OW.start hB) ?_
  unfold wp_X1_needThere at hw
  refine a_iload_0 (pc := 0) C dX1_needThere_0 ?_
  refine a_if_ne (pc := 1) C 14 dX1_needThere_1 (by decide) (fun c1 => ?_) (fun c1 => ?_)
  · have hw := hw.1 c1
    exact a_xret (a_vret C dX1_needThere_14 (fun h n u hV => ⟨⟨_, rfl, hw, hV⟩, o_end hs hV⟩))
  · have hw := hw.2 c1
    exact a_throwS (pc := 4) C (cls := "java/lang/IndexOutOfBoundsException") (names := ["java/lang/RuntimeException", "java/lang/Exception"]) (by decide +kernel) (by decide +kernel) q1318 q86 ((C.SC.2.2.2.2.2.2 22 _ rfl).1) (hat_IO C) hgo_IO (by decide) (by decide) dX1_needThere_4 dX1_needThere_7 dX1_needThere_8 dX1_needThere_10 dX1_needThere_13 (fun x hx => (ht x hx).elim) (Nat.le_of_ble_eq_true rfl) (fun h n u hV => ⟨(o_roomN hs (N := 6) (c := 1) (by decide) (by decide) hw.1 h n u hV).1, (o_roomN hs (N := 6) (c := 1) (by decide) (by decide) hw.1 h n u hV).2, ⟨0, _, rfl, hw.2, hV.1.same rfl rfl rfl, hV.2.2.2.2.2.1⟩⟩)
def wp_X1_needLot (a : Nat) (p1 : Int32) (σ : OS) (Q : OS → Prop) (X : Nat → OS → Prop) : Prop := (∃ r1 : Nat, oF σ a 0 0 (.ref r1) ∧ (∃ w2 : MS × List Int32, σ.2.1 r1 = some w2 ∧ wp_X2_isLot p1 (w2.1, w2.2, σ.2.2.1) (fun v5 s3 => ∀ σ4 : OS, σ4 = oHc σ r1 s3 → wp_X1_needThere v5 σ4 (fun σ6 => (Q σ6)) X)))
theorem sg_X1_needLot : aSig yX1_needLot 1 := by decide +kernel
set_option maxHeartbeats 4000000 in
theorem ct_X1_needLot (l : Launch) (G : aG) (a : Nat) (p1 : Int32) (E : Nat → Prop) (σ : OS) (Q : OS → Prop) (X : Nat → OS → Prop) (hw : wp_X1_needLot a p1 σ Q X) (h0 : AH) (n0 u0 : Nat) (hB : OB h0 n0 E σ) : CTX l yX1_needLot (ws_ yX1_needLot cX1_needLot 2 none) 7 G [.ref a, .int p1] h0 n0 u0 σ.2.2.1 (10 * σ.2.2.1) (o_pv Q h0 n0 u0 E σ.2.2.1) (o_px X h0 E) := by
  refine CTX.intro [some (.ref a), some (.int p1)] pn_RX1 rfl (Nat.le_of_ble_eq_true rfl) ?_
  intro p e s m args below meth c C hz hu ht
  have hs : s.heap.size = n0 ∧ slT s.heap = u0 := ⟨hz, hu⟩
  refine a_world (V1 := OW h0 n0 u0 E σ.2.2.1 σ) (OW.start hB) ?_
  unfold wp_X1_needLot at hw
  refine a_aload_0 (pc := 0) C dX1_needLot_0 ?_
  obtain ⟨r1, fr1, hw⟩ := hw
  refine a_getf (pc := 1) C (ref := "MaltDrums") in_X1 (ci := 0) rfl 0 (by decide) q299 rfl (fun h n u hV => o_fld fr1 hV) dX1_needLot_1 ?_
  refine a_iload_1 (pc := 4) C dX1_needLot_4 ?_
  obtain ⟨w2, yw2, hw⟩ := hw
  refine o_callHi (pc := 5) C hs [.int p1] (st := []) yw2 (fun h n u hV => ct_X2_isLot l G _ _ _ _ hw h n u hV) (by decide) (by decide) q66 q1311 q1312 q1313 (lw_meth q1314) sg_X2_isLot (Nat.le_of_ble_eq_true rfl) dX1_needLot_5 (fun v5 s3 hw => o_top (fun σ4 eσ4 => ?_))
  have hw := hw σ4 eσ4
  refine o_callXSv (pc := 8) C hs [.int v5] (st := []) (fun h n u hB => ct_X1_needThere l G _ E _ _ _ hw h n u hB) (by decide) (by decide) (lw_S q1315 q1316 q65 q1317) sg_X1_needThere (Nat.le_of_ble_eq_true rfl) dX1_needLot_8 (fun σ6 hw => ?_) (fun k9 σx hx => ?_)
  · exact a_xret (a_vret C dX1_needLot_11 (fun h n u hV => ⟨⟨_, rfl, hw, hV⟩, o_end hs hV⟩))
  · exact ax_out C (fun x hx => (ht x hx).elim) (fun h n u hV => ⟨⟨k9, σx, rfl, hx, hV.1.same rfl rfl rfl, hV.2.2.2.2.2.1⟩, o_end hs hV⟩)
def wp_X1_steep (a : Nat) (p1 : Int32) (σ : OS) (Q : Int32 → OS → Prop) (X : Nat → OS → Prop) : Prop := (oC σ a 0 ∧ wp_X1_needLot a p1 σ (fun σ1 => (∃ r2 : Nat, oF σ1 a 0 0 (.ref r2) ∧ (∃ w3 : MS × List Int32, σ1.2.1 r2 = some w3 ∧ wp_X2_whyNotSteep p1 (w3.1, w3.2, σ1.2.2.1) (fun v6 s4 => ∀ σ5 : OS, σ5 = oHc σ1 r2 s4 → (jn (fun (x9 : Int32) => wp_X1_needState x9 σ5 (fun σ10 => (oC σ10 a 0 ∧ wp_X1_save a σ10 (fun σ11 => (∃ r12 : Nat, oF σ11 a 0 0 (.ref r12) ∧ (∃ w13 : MS × List Int32, σ11.2.1 r12 = some w13 ∧ wp_X2_steep p1 (w13.1, w13.2, σ11.2.2.1) (fun v16 s14 => ∀ σ15 : OS, σ15 = oHc σ11 r12 s14 → (Q v16 σ15))))))) X) (fun kj8 => (((¬ v6 = 0) → (kj8 0)) ∧ ((v6 = 0) → (kj8 1))))))))) X)
theorem sg_X1_steep : aSig yX1_steep 1 := by decide +kernel
set_option maxHeartbeats 4000000 in
theorem ct_X1_steep (l : Launch) (G : aG) (a : Nat) (p1 : Int32) (E : Nat → Prop) (σ : OS) (Q : Int32 → OS → Prop) (X : Nat → OS → Prop) (hw : wp_X1_steep a p1 σ Q X) (h0 : AH) (n0 u0 : Nat) (hB : OB h0 n0 E σ) : CTX l yX1_steep (ws_ yX1_steep cX1_steep 2 (some .int)) 19 G [.ref a, .int p1] h0 n0 u0 σ.2.2.1 (10 * σ.2.2.1) (o_pi Q h0 n0 u0 E σ.2.2.1) (o_px X h0 E) := by
  refine CTX.intro [some (.ref a), some (.int p1)] pn_RX1 rfl (Nat.le_of_ble_eq_true rfl) ?_
  intro p e s m args below meth c C hz hu ht
  have hs : s.heap.size = n0 ∧ slT s.heap = u0 := ⟨hz, hu⟩
  refine a_world (V1 := OW h0 n0 u0 E σ.2.2.1 σ) (OW.start hB) ?_
  unfold wp_X1_steep at hw
  refine a_aload_0 (pc := 0) C dX1_steep_0 ?_
  refine a_iload_1 (pc := 1) C dX1_steep_1 ?_
  refine o_callXVv (pc := 2) C hs [.int p1] (b := a) (ci := 0) (st := []) (fun h n u hB => ct_X1_needLot l G a _ E _ _ _ hw.2 h n u hB) (by decide) (by decide) rfl hw.1 q65 q1307 q1309 qs25 (lw_meth q1310) sg_X1_needLot (Nat.le_of_ble_eq_true rfl) dX1_steep_2 (fun σ1 hw => ?_) (fun k9 σx hx => ?_)
  · refine a_aload_0 (pc := 5) C dX1_steep_5 ?_
    obtain ⟨r2, fr2, hw⟩ := hw
    refine a_getf (pc := 6) C (ref := "MaltDrums") in_X1 (ci := 0) rfl 0 (by decide) q299 rfl (fun h n u hV => o_fld fr2 hV) dX1_steep_6 ?_
    refine a_iload_1 (pc := 9) C dX1_steep_9 ?_
    obtain ⟨w3, yw3, hw⟩ := hw
    refine o_callHi (pc := 10) C hs [.int p1] (st := []) yw3 (fun h n u hV => ct_X2_whyNotSteep l G _ _ _ _ hw h n u hV) (by decide) (by decide) q66 q1331 q1332 q1333 (lw_meth q1334) sg_X2_whyNotSteep (Nat.le_of_ble_eq_true rfl) dX1_steep_10 (fun v6 s4 hw => o_top (fun σ5 eσ5 => ?_))
    have hw := hw σ5 eσ5
    refine jn_use hw (fun kj8 ekj8 hw => ?_)
    have hkj8 : ∀ (x9 : Int32), kj8 x9 → AW G p l e (aRm 19 σ.2.2.1 (10 * σ.2.2.1)) s m args below meth c (a_A h0 n0) 2 (vx_MQ below (a_Qc G (o_pi Q h0 n0 u0 E σ.2.2.1) (a_A h0 n0)) (a_XC G (o_px X h0 E) (a_A h0 n0)) args s σ.2.2.1 (10 * σ.2.2.1) (a_A h0 n0)) (OW h0 n0 u0 E σ.2.2.1 σ5) 21 [some (.ref a), some (.int p1)] [.int x9] := by
      intro x9 hw
      rw [ekj8] at hw
      refine o_callXSv (pc := 21) C hs [.int x9] (st := []) (fun h n u hB => ct_X1_needState l G _ E _ _ _ hw h n u hB) (by decide) (by decide) (lw_S q1237 q1238 q65 q1239) sg_X1_needState (Nat.le_of_ble_eq_true rfl) dX1_steep_21 (fun σ10 hw => ?_) (fun k9 σx hx => ?_)
      · refine a_aload_0 (pc := 24) C dX1_steep_24 ?_
        refine o_callVv (pc := 25) C hs [] (b := a) (ci := 0) (st := []) (fun h n u hB => ct_X1_save l G a E _ _ hw.2 h n u hB) (by decide) (by decide) rfl hw.1 q65 q1256 q1258 qs22 (lw_meth q1259) sg_X1_save (Nat.le_of_ble_eq_true rfl) dX1_steep_25 (fun σ11 hw => ?_)
        refine a_aload_0 (pc := 28) C dX1_steep_28 ?_
        obtain ⟨r12, fr12, hw⟩ := hw
        refine a_getf (pc := 29) C (ref := "MaltDrums") in_X1 (ci := 0) rfl 0 (by decide) q299 rfl (fun h n u hV => o_fld fr12 hV) dX1_steep_29 ?_
        refine a_iload_1 (pc := 32) C dX1_steep_32 ?_
        obtain ⟨w13, yw13, hw⟩ := hw
        refine o_callHi (pc := 33) C hs [.int p1] (st := []) yw13 (fun h n u hV => ct_X2_steep l G _ _ _ _ hw h n u hV) (by decide) (by decide) q66 q1337 q1338 q1339 (lw_meth q1340) sg_X2_steep (Nat.le_of_ble_eq_true rfl) dX1_steep_33 (fun v16 s14 hw => o_top (fun σ15 eσ15 => ?_))
        have hw := hw σ15 eσ15
        exact a_xret (a_iret C dX1_steep_36 (fun h n u hV => ⟨⟨(_, _), rfl, hw, hV⟩, o_end hs hV⟩))
      · exact ax_out C (fun x hx => (ht x hx).elim) (fun h n u hV => ⟨⟨k9, σx, rfl, hx, hV.1.same rfl rfl rfl, hV.2.2.2.2.2.1⟩, o_end hs hV⟩)
    refine a_if_ne (pc := 13) C 20 dX1_steep_13 (by decide) (fun c7 => ?_) (fun c7 => ?_)
    · have hw := hw.1 c7
      refine a_iconst (pc := 20) C dX1_steep_20 ic_0 ?_
      exact hkj8 _ hw
    · have hw := hw.2 c7
      refine a_iconst (pc := 16) C dX1_steep_16 ic_1 ?_
      refine a_goto (pc := 17) C 21 dX1_steep_17 (by decide) ?_
      exact hkj8 _ hw
  · exact ax_out C (fun x hx => (ht x hx).elim) (fun h n u hV => ⟨⟨k9, σx, rfl, hx, hV.1.same rfl rfl rfl, hV.2.2.2.2.2.1⟩, o_end hs hV⟩)
def wp_X1_toDrum (a : Nat) (p1 : Int32) (p2 : Int32) (σ : OS) (Q : Int32 → OS → Prop) (X : Nat → OS → Prop) : Prop := (oC σ a 0 ∧ wp_X1_needLot a p1 σ (fun σ1 => (wp_X1_isDrum p2 (fun v2 => wp_X1_needThere v2 σ1 (fun σ3 => (∃ r4 : Nat, oF σ3 a 0 0 (.ref r4) ∧ (∃ w5 : MS × List Int32, σ3.2.1 r4 = some w5 ∧ wp_X2_whyNotDrum p1 p2 (w5.1, w5.2, σ3.2.2.1) (fun v8 s6 => ∀ σ7 : OS, σ7 = oHc σ3 r4 s6 → (jn (fun (x11 : Int32) => wp_X1_needState x11 σ7 (fun σ12 => (oC σ12 a 0 ∧ wp_X1_save a σ12 (fun σ13 => (∃ r14 : Nat, oF σ13 a 0 0 (.ref r14) ∧ (∃ w15 : MS × List Int32, σ13.2.1 r14 = some w15 ∧ wp_X2_toDrum p1 p2 (w15.1, w15.2, σ13.2.2.1) (fun v18 s16 => ∀ σ17 : OS, σ17 = oHc σ13 r14 s16 → (Q v18 σ17))))))) X) (fun kj10 => (((¬ v8 = 0) → (kj10 0)) ∧ ((v8 = 0) → (kj10 1))))))))) X))) X)
theorem sg_X1_toDrum : aSig yX1_toDrum 2 := by decide +kernel
set_option maxHeartbeats 4000000 in
theorem ct_X1_toDrum (l : Launch) (G : aG) (a : Nat) (p1 : Int32) (p2 : Int32) (E : Nat → Prop) (σ : OS) (Q : Int32 → OS → Prop) (X : Nat → OS → Prop) (hw : wp_X1_toDrum a p1 p2 σ Q X) (h0 : AH) (n0 u0 : Nat) (hB : OB h0 n0 E σ) : CTX l yX1_toDrum (ws_ yX1_toDrum cX1_toDrum 3 (some .int)) 19 G [.ref a, .int p1, .int p2] h0 n0 u0 σ.2.2.1 (10 * σ.2.2.1) (o_pi Q h0 n0 u0 E σ.2.2.1) (o_px X h0 E) := by
  refine CTX.intro [some (.ref a), some (.int p1), some (.int p2)] pn_RX1 rfl (Nat.le_of_ble_eq_true rfl) ?_
  intro p e s m args below meth c C hz hu ht
  have hs : s.heap.size = n0 ∧ slT s.heap = u0 := ⟨hz, hu⟩
  refine a_world (V1 := OW h0 n0 u0 E σ.2.2.1 σ) (OW.start hB) ?_
  unfold wp_X1_toDrum at hw
  refine a_aload_0 (pc := 0) C dX1_toDrum_0 ?_
  refine a_iload_1 (pc := 1) C dX1_toDrum_1 ?_
  refine o_callXVv (pc := 2) C hs [.int p1] (b := a) (ci := 0) (st := []) (fun h n u hB => ct_X1_needLot l G a _ E _ _ _ hw.2 h n u hB) (by decide) (by decide) rfl hw.1 q65 q1307 q1309 qs25 (lw_meth q1310) sg_X1_needLot (Nat.le_of_ble_eq_true rfl) dX1_toDrum_2 (fun σ1 hw => ?_) (fun k9 σx hx => ?_)
  · refine a_iload_2 (pc := 5) C dX1_toDrum_5 ?_
    refine o_callSp (pc := 6) C hs [.int p2] (st := []) (fun h n u => ct_X1_isDrum l G _ _ hw h n u) (by decide) (by decide) (lw_S q1348 q1349 q65 q1350) sg_X1_isDrum (Nat.le_of_ble_eq_true rfl) dX1_toDrum_6 (fun v2 hw => ?_)
    refine o_callXSv (pc := 9) C hs [.int v2] (st := []) (fun h n u hB => ct_X1_needThere l G _ E _ _ _ hw h n u hB) (by decide) (by decide) (lw_S q1315 q1316 q65 q1317) sg_X1_needThere (Nat.le_of_ble_eq_true rfl) dX1_toDrum_9 (fun σ3 hw => ?_) (fun k9 σx hx => ?_)
    · refine a_aload_0 (pc := 12) C dX1_toDrum_12 ?_
      obtain ⟨r4, fr4, hw⟩ := hw
      refine a_getf (pc := 13) C (ref := "MaltDrums") in_X1 (ci := 0) rfl 0 (by decide) q299 rfl (fun h n u hV => o_fld fr4 hV) dX1_toDrum_13 ?_
      refine a_iload_1 (pc := 16) C dX1_toDrum_16 ?_
      refine a_iload_2 (pc := 17) C dX1_toDrum_17 ?_
      obtain ⟨w5, yw5, hw⟩ := hw
      refine o_callHi (pc := 18) C hs [.int p1, .int p2] (st := []) yw5 (fun h n u hV => ct_X2_whyNotDrum l G _ _ _ _ _ hw h n u hV) (by decide) (by decide) q66 q1351 q1352 q1353 (lw_meth q1354) sg_X2_whyNotDrum (Nat.le_of_ble_eq_true rfl) dX1_toDrum_18 (fun v8 s6 hw => o_top (fun σ7 eσ7 => ?_))
      have hw := hw σ7 eσ7
      refine jn_use hw (fun kj10 ekj10 hw => ?_)
      have hkj10 : ∀ (x11 : Int32), kj10 x11 → AW G p l e (aRm 19 σ.2.2.1 (10 * σ.2.2.1)) s m args below meth c (a_A h0 n0) 3 (vx_MQ below (a_Qc G (o_pi Q h0 n0 u0 E σ.2.2.1) (a_A h0 n0)) (a_XC G (o_px X h0 E) (a_A h0 n0)) args s σ.2.2.1 (10 * σ.2.2.1) (a_A h0 n0)) (OW h0 n0 u0 E σ.2.2.1 σ7) 29 [some (.ref a), some (.int p1), some (.int p2)] [.int x11] := by
        intro x11 hw
        rw [ekj10] at hw
        refine o_callXSv (pc := 29) C hs [.int x11] (st := []) (fun h n u hB => ct_X1_needState l G _ E _ _ _ hw h n u hB) (by decide) (by decide) (lw_S q1237 q1238 q65 q1239) sg_X1_needState (Nat.le_of_ble_eq_true rfl) dX1_toDrum_29 (fun σ12 hw => ?_) (fun k9 σx hx => ?_)
        · refine a_aload_0 (pc := 32) C dX1_toDrum_32 ?_
          refine o_callVv (pc := 33) C hs [] (b := a) (ci := 0) (st := []) (fun h n u hB => ct_X1_save l G a E _ _ hw.2 h n u hB) (by decide) (by decide) rfl hw.1 q65 q1256 q1258 qs22 (lw_meth q1259) sg_X1_save (Nat.le_of_ble_eq_true rfl) dX1_toDrum_33 (fun σ13 hw => ?_)
          refine a_aload_0 (pc := 36) C dX1_toDrum_36 ?_
          obtain ⟨r14, fr14, hw⟩ := hw
          refine a_getf (pc := 37) C (ref := "MaltDrums") in_X1 (ci := 0) rfl 0 (by decide) q299 rfl (fun h n u hV => o_fld fr14 hV) dX1_toDrum_37 ?_
          refine a_iload_1 (pc := 40) C dX1_toDrum_40 ?_
          refine a_iload_2 (pc := 41) C dX1_toDrum_41 ?_
          obtain ⟨w15, yw15, hw⟩ := hw
          refine o_callHi (pc := 42) C hs [.int p1, .int p2] (st := []) yw15 (fun h n u hV => ct_X2_toDrum l G _ _ _ _ _ hw h n u hV) (by decide) (by decide) q66 q1355 q1356 q1357 (lw_meth q1358) sg_X2_toDrum (Nat.le_of_ble_eq_true rfl) dX1_toDrum_42 (fun v18 s16 hw => o_top (fun σ17 eσ17 => ?_))
          have hw := hw σ17 eσ17
          exact a_xret (a_iret C dX1_toDrum_45 (fun h n u hV => ⟨⟨(_, _), rfl, hw, hV⟩, o_end hs hV⟩))
        · exact ax_out C (fun x hx => (ht x hx).elim) (fun h n u hV => ⟨⟨k9, σx, rfl, hx, hV.1.same rfl rfl rfl, hV.2.2.2.2.2.1⟩, o_end hs hV⟩)
      refine a_if_ne (pc := 21) C 28 dX1_toDrum_21 (by decide) (fun c9 => ?_) (fun c9 => ?_)
      · have hw := hw.1 c9
        refine a_iconst (pc := 28) C dX1_toDrum_28 ic_0 ?_
        exact hkj10 _ hw
      · have hw := hw.2 c9
        refine a_iconst (pc := 24) C dX1_toDrum_24 ic_1 ?_
        refine a_goto (pc := 25) C 29 dX1_toDrum_25 (by decide) ?_
        exact hkj10 _ hw
    · exact ax_out C (fun x hx => (ht x hx).elim) (fun h n u hV => ⟨⟨k9, σx, rfl, hx, hV.1.same rfl rfl rfl, hV.2.2.2.2.2.1⟩, o_end hs hV⟩)
  · exact ax_out C (fun x hx => (ht x hx).elim) (fun h n u hV => ⟨⟨k9, σx, rfl, hx, hV.1.same rfl rfl rfl, hV.2.2.2.2.2.1⟩, o_end hs hV⟩)
def wp_X1_toHeap (a : Nat) (p1 : Int32) (σ : OS) (Q : Int32 → OS → Prop) (X : Nat → OS → Prop) : Prop := (oC σ a 0 ∧ wp_X1_needLot a p1 σ (fun σ1 => (∃ r2 : Nat, oF σ1 a 0 0 (.ref r2) ∧ (∃ w3 : MS × List Int32, σ1.2.1 r2 = some w3 ∧ wp_X2_canHeap p1 (w3.1, w3.2, σ1.2.2.1) (fun v6 s4 => ∀ σ5 : OS, σ5 = oHc σ1 r2 s4 → wp_X1_needState v6 σ5 (fun σ7 => (oC σ7 a 0 ∧ wp_X1_save a σ7 (fun σ8 => (∃ r9 : Nat, oF σ8 a 0 0 (.ref r9) ∧ (∃ w10 : MS × List Int32, σ8.2.1 r9 = some w10 ∧ wp_X2_toHeap p1 (w10.1, w10.2, σ8.2.2.1) (fun v13 s11 => ∀ σ12 : OS, σ12 = oHc σ8 r9 s11 → (Q v13 σ12))))))) X)))) X)
theorem sg_X1_toHeap : aSig yX1_toHeap 1 := by decide +kernel
set_option maxHeartbeats 4000000 in
theorem ct_X1_toHeap (l : Launch) (G : aG) (a : Nat) (p1 : Int32) (E : Nat → Prop) (σ : OS) (Q : Int32 → OS → Prop) (X : Nat → OS → Prop) (hw : wp_X1_toHeap a p1 σ Q X) (h0 : AH) (n0 u0 : Nat) (hB : OB h0 n0 E σ) : CTX l yX1_toHeap (ws_ yX1_toHeap cX1_toHeap 2 (some .int)) 19 G [.ref a, .int p1] h0 n0 u0 σ.2.2.1 (10 * σ.2.2.1) (o_pi Q h0 n0 u0 E σ.2.2.1) (o_px X h0 E) := by
  refine CTX.intro [some (.ref a), some (.int p1)] pn_RX1 rfl (Nat.le_of_ble_eq_true rfl) ?_
  intro p e s m args below meth c C hz hu ht
  have hs : s.heap.size = n0 ∧ slT s.heap = u0 := ⟨hz, hu⟩
  refine a_world (V1 := OW h0 n0 u0 E σ.2.2.1 σ) (OW.start hB) ?_
  unfold wp_X1_toHeap at hw
  refine a_aload_0 (pc := 0) C dX1_toHeap_0 ?_
  refine a_iload_1 (pc := 1) C dX1_toHeap_1 ?_
  refine o_callXVv (pc := 2) C hs [.int p1] (b := a) (ci := 0) (st := []) (fun h n u hB => ct_X1_needLot l G a _ E _ _ _ hw.2 h n u hB) (by decide) (by decide) rfl hw.1 q65 q1307 q1309 qs25 (lw_meth q1310) sg_X1_needLot (Nat.le_of_ble_eq_true rfl) dX1_toHeap_2 (fun σ1 hw => ?_) (fun k9 σx hx => ?_)
  · refine a_aload_0 (pc := 5) C dX1_toHeap_5 ?_
    obtain ⟨r2, fr2, hw⟩ := hw
    refine a_getf (pc := 6) C (ref := "MaltDrums") in_X1 (ci := 0) rfl 0 (by decide) q299 rfl (fun h n u hV => o_fld fr2 hV) dX1_toHeap_6 ?_
    refine a_iload_1 (pc := 9) C dX1_toHeap_9 ?_
    obtain ⟨w3, yw3, hw⟩ := hw
    refine o_callHi (pc := 10) C hs [.int p1] (st := []) yw3 (fun h n u hV => ct_X2_canHeap l G _ _ _ _ hw h n u hV) (by decide) (by decide) q66 q1366 q1367 q1368 (lw_meth q1369) sg_X2_canHeap (Nat.le_of_ble_eq_true rfl) dX1_toHeap_10 (fun v6 s4 hw => o_top (fun σ5 eσ5 => ?_))
    have hw := hw σ5 eσ5
    refine o_callXSv (pc := 13) C hs [.int v6] (st := []) (fun h n u hB => ct_X1_needState l G _ E _ _ _ hw h n u hB) (by decide) (by decide) (lw_S q1237 q1238 q65 q1239) sg_X1_needState (Nat.le_of_ble_eq_true rfl) dX1_toHeap_13 (fun σ7 hw => ?_) (fun k9 σx hx => ?_)
    · refine a_aload_0 (pc := 16) C dX1_toHeap_16 ?_
      refine o_callVv (pc := 17) C hs [] (b := a) (ci := 0) (st := []) (fun h n u hB => ct_X1_save l G a E _ _ hw.2 h n u hB) (by decide) (by decide) rfl hw.1 q65 q1256 q1258 qs22 (lw_meth q1259) sg_X1_save (Nat.le_of_ble_eq_true rfl) dX1_toHeap_17 (fun σ8 hw => ?_)
      refine a_aload_0 (pc := 20) C dX1_toHeap_20 ?_
      obtain ⟨r9, fr9, hw⟩ := hw
      refine a_getf (pc := 21) C (ref := "MaltDrums") in_X1 (ci := 0) rfl 0 (by decide) q299 rfl (fun h n u hV => o_fld fr9 hV) dX1_toHeap_21 ?_
      refine a_iload_1 (pc := 24) C dX1_toHeap_24 ?_
      obtain ⟨w10, yw10, hw⟩ := hw
      refine o_callHi (pc := 25) C hs [.int p1] (st := []) yw10 (fun h n u hV => ct_X2_toHeap l G _ _ _ _ hw h n u hV) (by decide) (by decide) q66 q1370 q1371 q1372 (lw_meth q1373) sg_X2_toHeap (Nat.le_of_ble_eq_true rfl) dX1_toHeap_25 (fun v13 s11 hw => o_top (fun σ12 eσ12 => ?_))
      have hw := hw σ12 eσ12
      exact a_xret (a_iret C dX1_toHeap_28 (fun h n u hV => ⟨⟨(_, _), rfl, hw, hV⟩, o_end hs hV⟩))
    · exact ax_out C (fun x hx => (ht x hx).elim) (fun h n u hV => ⟨⟨k9, σx, rfl, hx, hV.1.same rfl rfl rfl, hV.2.2.2.2.2.1⟩, o_end hs hV⟩)
  · exact ax_out C (fun x hx => (ht x hx).elim) (fun h n u hV => ⟨⟨k9, σx, rfl, hx, hV.1.same rfl rfl rfl, hV.2.2.2.2.2.1⟩, o_end hs hV⟩)
def wp_X1_load (a : Nat) (p1 : Int32) (σ : OS) (Q : Int32 → OS → Prop) (X : Nat → OS → Prop) : Prop := (oC σ a 0 ∧ wp_X1_needLot a p1 σ (fun σ1 => (∃ r2 : Nat, oF σ1 a 0 0 (.ref r2) ∧ (∃ w3 : MS × List Int32, σ1.2.1 r2 = some w3 ∧ wp_X2_whyNotLoad p1 (w3.1, w3.2, σ1.2.2.1) (fun v6 s4 => ∀ σ5 : OS, σ5 = oHc σ1 r2 s4 → (jn (fun (x9 : Int32) => wp_X1_needState x9 σ5 (fun σ10 => (oC σ10 a 0 ∧ wp_X1_save a σ10 (fun σ11 => (∃ r12 : Nat, oF σ11 a 0 0 (.ref r12) ∧ (∃ w13 : MS × List Int32, σ11.2.1 r12 = some w13 ∧ wp_X2_load p1 (w13.1, w13.2, σ11.2.2.1) (fun v16 s14 => ∀ σ15 : OS, σ15 = oHc σ11 r12 s14 → (Q v16 σ15))))))) X) (fun kj8 => (((¬ v6 = 0) → (kj8 0)) ∧ ((v6 = 0) → (kj8 1))))))))) X)
theorem sg_X1_load : aSig yX1_load 1 := by decide +kernel
set_option maxHeartbeats 4000000 in
theorem ct_X1_load (l : Launch) (G : aG) (a : Nat) (p1 : Int32) (E : Nat → Prop) (σ : OS) (Q : Int32 → OS → Prop) (X : Nat → OS → Prop) (hw : wp_X1_load a p1 σ Q X) (h0 : AH) (n0 u0 : Nat) (hB : OB h0 n0 E σ) : CTX l yX1_load (ws_ yX1_load cX1_load 2 (some .int)) 19 G [.ref a, .int p1] h0 n0 u0 σ.2.2.1 (10 * σ.2.2.1) (o_pi Q h0 n0 u0 E σ.2.2.1) (o_px X h0 E) := by
  refine CTX.intro [some (.ref a), some (.int p1)] pn_RX1 rfl (Nat.le_of_ble_eq_true rfl) ?_
  intro p e s m args below meth c C hz hu ht
  have hs : s.heap.size = n0 ∧ slT s.heap = u0 := ⟨hz, hu⟩
  refine a_world (V1 := OW h0 n0 u0 E σ.2.2.1 σ) (OW.start hB) ?_
  unfold wp_X1_load at hw
  refine a_aload_0 (pc := 0) C dX1_load_0 ?_
  refine a_iload_1 (pc := 1) C dX1_load_1 ?_
  refine o_callXVv (pc := 2) C hs [.int p1] (b := a) (ci := 0) (st := []) (fun h n u hB => ct_X1_needLot l G a _ E _ _ _ hw.2 h n u hB) (by decide) (by decide) rfl hw.1 q65 q1307 q1309 qs25 (lw_meth q1310) sg_X1_needLot (Nat.le_of_ble_eq_true rfl) dX1_load_2 (fun σ1 hw => ?_) (fun k9 σx hx => ?_)
  · refine a_aload_0 (pc := 5) C dX1_load_5 ?_
    obtain ⟨r2, fr2, hw⟩ := hw
    refine a_getf (pc := 6) C (ref := "MaltDrums") in_X1 (ci := 0) rfl 0 (by decide) q299 rfl (fun h n u hV => o_fld fr2 hV) dX1_load_6 ?_
    refine a_iload_1 (pc := 9) C dX1_load_9 ?_
    obtain ⟨w3, yw3, hw⟩ := hw
    refine o_callHi (pc := 10) C hs [.int p1] (st := []) yw3 (fun h n u hV => ct_X2_whyNotLoad l G _ _ _ _ hw h n u hV) (by decide) (by decide) q66 q1381 q1382 q1383 (lw_meth q1384) sg_X2_whyNotLoad (Nat.le_of_ble_eq_true rfl) dX1_load_10 (fun v6 s4 hw => o_top (fun σ5 eσ5 => ?_))
    have hw := hw σ5 eσ5
    refine jn_use hw (fun kj8 ekj8 hw => ?_)
    have hkj8 : ∀ (x9 : Int32), kj8 x9 → AW G p l e (aRm 19 σ.2.2.1 (10 * σ.2.2.1)) s m args below meth c (a_A h0 n0) 2 (vx_MQ below (a_Qc G (o_pi Q h0 n0 u0 E σ.2.2.1) (a_A h0 n0)) (a_XC G (o_px X h0 E) (a_A h0 n0)) args s σ.2.2.1 (10 * σ.2.2.1) (a_A h0 n0)) (OW h0 n0 u0 E σ.2.2.1 σ5) 21 [some (.ref a), some (.int p1)] [.int x9] := by
      intro x9 hw
      rw [ekj8] at hw
      refine o_callXSv (pc := 21) C hs [.int x9] (st := []) (fun h n u hB => ct_X1_needState l G _ E _ _ _ hw h n u hB) (by decide) (by decide) (lw_S q1237 q1238 q65 q1239) sg_X1_needState (Nat.le_of_ble_eq_true rfl) dX1_load_21 (fun σ10 hw => ?_) (fun k9 σx hx => ?_)
      · refine a_aload_0 (pc := 24) C dX1_load_24 ?_
        refine o_callVv (pc := 25) C hs [] (b := a) (ci := 0) (st := []) (fun h n u hB => ct_X1_save l G a E _ _ hw.2 h n u hB) (by decide) (by decide) rfl hw.1 q65 q1256 q1258 qs22 (lw_meth q1259) sg_X1_save (Nat.le_of_ble_eq_true rfl) dX1_load_25 (fun σ11 hw => ?_)
        refine a_aload_0 (pc := 28) C dX1_load_28 ?_
        obtain ⟨r12, fr12, hw⟩ := hw
        refine a_getf (pc := 29) C (ref := "MaltDrums") in_X1 (ci := 0) rfl 0 (by decide) q299 rfl (fun h n u hV => o_fld fr12 hV) dX1_load_29 ?_
        refine a_iload_1 (pc := 32) C dX1_load_32 ?_
        obtain ⟨w13, yw13, hw⟩ := hw
        refine o_callHi (pc := 33) C hs [.int p1] (st := []) yw13 (fun h n u hV => ct_X2_load l G _ _ _ _ hw h n u hV) (by decide) (by decide) q66 q1386 q1387 q1388 (lw_meth q1389) sg_X2_load (Nat.le_of_ble_eq_true rfl) dX1_load_33 (fun v16 s14 hw => o_top (fun σ15 eσ15 => ?_))
        have hw := hw σ15 eσ15
        exact a_xret (a_iret C dX1_load_36 (fun h n u hV => ⟨⟨(_, _), rfl, hw, hV⟩, o_end hs hV⟩))
      · exact ax_out C (fun x hx => (ht x hx).elim) (fun h n u hV => ⟨⟨k9, σx, rfl, hx, hV.1.same rfl rfl rfl, hV.2.2.2.2.2.1⟩, o_end hs hV⟩)
    refine a_if_ne (pc := 13) C 20 dX1_load_13 (by decide) (fun c7 => ?_) (fun c7 => ?_)
    · have hw := hw.1 c7
      refine a_iconst (pc := 20) C dX1_load_20 ic_0 ?_
      exact hkj8 _ hw
    · have hw := hw.2 c7
      refine a_iconst (pc := 16) C dX1_load_16 ic_1 ?_
      refine a_goto (pc := 17) C 21 dX1_load_17 (by decide) ?_
      exact hkj8 _ hw
  · exact ax_out C (fun x hx => (ht x hx).elim) (fun h n u hV => ⟨⟨k9, σx, rfl, hx, hV.1.same rfl rfl rfl, hV.2.2.2.2.2.1⟩, o_end hs hV⟩)
def wp_X1_light (a : Nat) (σ : OS) (Q : Int32 → OS → Prop) (X : Nat → OS → Prop) : Prop := (∃ r1 : Nat, oF σ a 0 0 (.ref r1) ∧ (∃ w2 : MS × List Int32, σ.2.1 r1 = some w2 ∧ wp_X2_canLight (w2.1, w2.2, σ.2.2.1) (fun v5 s3 => ∀ σ4 : OS, σ4 = oHc σ r1 s3 → wp_X1_needState v5 σ4 (fun σ6 => (oC σ6 a 0 ∧ wp_X1_save a σ6 (fun σ7 => (∃ r8 : Nat, oF σ7 a 0 0 (.ref r8) ∧ (∃ w9 : MS × List Int32, σ7.2.1 r8 = some w9 ∧ wp_X2_light (w9.1, w9.2, σ7.2.2.1) (fun v12 s10 => ∀ σ11 : OS, σ11 = oHc σ7 r8 s10 → (Q v12 σ11))))))) X)))
theorem sg_X1_light : aSig yX1_light 0 := by decide +kernel
set_option maxHeartbeats 4000000 in
theorem ct_X1_light (l : Launch) (G : aG) (a : Nat) (E : Nat → Prop) (σ : OS) (Q : Int32 → OS → Prop) (X : Nat → OS → Prop) (hw : wp_X1_light a σ Q X) (h0 : AH) (n0 u0 : Nat) (hB : OB h0 n0 E σ) : CTX l yX1_light (ws_ yX1_light cX1_light 1 (some .int)) 7 G [.ref a] h0 n0 u0 σ.2.2.1 (10 * σ.2.2.1) (o_pi Q h0 n0 u0 E σ.2.2.1) (o_px X h0 E) := by
  refine CTX.intro [some (.ref a)] pn_RX1 rfl (Nat.le_of_ble_eq_true rfl) ?_
  intro p e s m args below meth c C hz hu ht
  have hs : s.heap.size = n0 ∧ slT s.heap = u0 := ⟨hz, hu⟩
  refine a_world (V1 := OW h0 n0 u0 E σ.2.2.1 σ) (OW.start hB) ?_
  unfold wp_X1_light at hw
  refine a_aload_0 (pc := 0) C dX1_light_0 ?_
  obtain ⟨r1, fr1, hw⟩ := hw
  refine a_getf (pc := 1) C (ref := "MaltDrums") in_X1 (ci := 0) rfl 0 (by decide) q299 rfl (fun h n u hV => o_fld fr1 hV) dX1_light_1 ?_
  obtain ⟨w2, yw2, hw⟩ := hw
  refine o_callHi (pc := 4) C hs [] (st := []) yw2 (fun h n u hV => ct_X2_canLight l G _ _ _ hw h n u hV) (by decide) (by decide) q66 q1397 q1398 q1399 (lw_meth q1400) sg_X2_canLight (Nat.le_of_ble_eq_true rfl) dX1_light_4 (fun v5 s3 hw => o_top (fun σ4 eσ4 => ?_))
  have hw := hw σ4 eσ4
  refine o_callXSv (pc := 7) C hs [.int v5] (st := []) (fun h n u hB => ct_X1_needState l G _ E _ _ _ hw h n u hB) (by decide) (by decide) (lw_S q1237 q1238 q65 q1239) sg_X1_needState (Nat.le_of_ble_eq_true rfl) dX1_light_7 (fun σ6 hw => ?_) (fun k9 σx hx => ?_)
  · refine a_aload_0 (pc := 10) C dX1_light_10 ?_
    refine o_callVv (pc := 11) C hs [] (b := a) (ci := 0) (st := []) (fun h n u hB => ct_X1_save l G a E _ _ hw.2 h n u hB) (by decide) (by decide) rfl hw.1 q65 q1256 q1258 qs22 (lw_meth q1259) sg_X1_save (Nat.le_of_ble_eq_true rfl) dX1_light_11 (fun σ7 hw => ?_)
    refine a_aload_0 (pc := 14) C dX1_light_14 ?_
    obtain ⟨r8, fr8, hw⟩ := hw
    refine a_getf (pc := 15) C (ref := "MaltDrums") in_X1 (ci := 0) rfl 0 (by decide) q299 rfl (fun h n u hV => o_fld fr8 hV) dX1_light_15 ?_
    obtain ⟨w9, yw9, hw⟩ := hw
    refine o_callHi (pc := 18) C hs [] (st := []) yw9 (fun h n u hV => ct_X2_light l G _ _ _ hw h n u hV) (by decide) (by decide) q66 q1401 q1402 q1403 (lw_meth q1404) sg_X2_light (Nat.le_of_ble_eq_true rfl) dX1_light_18 (fun v12 s10 hw => o_top (fun σ11 eσ11 => ?_))
    have hw := hw σ11 eσ11
    exact a_xret (a_iret C dX1_light_21 (fun h n u hV => ⟨⟨(_, _), rfl, hw, hV⟩, o_end hs hV⟩))
  · exact ax_out C (fun x hx => (ht x hx).elim) (fun h n u hV => ⟨⟨k9, σx, rfl, hx, hV.1.same rfl rfl rfl, hV.2.2.2.2.2.1⟩, o_end hs hV⟩)
def wp_X1_spray (a : Nat) (p1 : Int32) (σ : OS) (Q : Int32 → OS → Prop) (X : Nat → OS → Prop) : Prop := (oC σ a 0 ∧ wp_X1_needLot a p1 σ (fun σ1 => (∃ r2 : Nat, oF σ1 a 0 0 (.ref r2) ∧ (∃ w3 : MS × List Int32, σ1.2.1 r2 = some w3 ∧ wp_X2_whyNotSpray p1 (w3.1, w3.2, σ1.2.2.1) (fun v6 s4 => ∀ σ5 : OS, σ5 = oHc σ1 r2 s4 → (jn (fun (x9 : Int32) => wp_X1_needState x9 σ5 (fun σ10 => (oC σ10 a 0 ∧ wp_X1_save a σ10 (fun σ11 => (∃ r12 : Nat, oF σ11 a 0 0 (.ref r12) ∧ (∃ w13 : MS × List Int32, σ11.2.1 r12 = some w13 ∧ wp_X2_spray p1 (w13.1, w13.2, σ11.2.2.1) (fun v16 s14 => ∀ σ15 : OS, σ15 = oHc σ11 r12 s14 → (Q v16 σ15))))))) X) (fun kj8 => (((¬ v6 = 0) → (kj8 0)) ∧ ((v6 = 0) → (kj8 1))))))))) X)
theorem sg_X1_spray : aSig yX1_spray 1 := by decide +kernel
set_option maxHeartbeats 4000000 in
theorem ct_X1_spray (l : Launch) (G : aG) (a : Nat) (p1 : Int32) (E : Nat → Prop) (σ : OS) (Q : Int32 → OS → Prop) (X : Nat → OS → Prop) (hw : wp_X1_spray a p1 σ Q X) (h0 : AH) (n0 u0 : Nat) (hB : OB h0 n0 E σ) : CTX l yX1_spray (ws_ yX1_spray cX1_spray 2 (some .int)) 18 G [.ref a, .int p1] h0 n0 u0 σ.2.2.1 (10 * σ.2.2.1) (o_pi Q h0 n0 u0 E σ.2.2.1) (o_px X h0 E) := by
  refine CTX.intro [some (.ref a), some (.int p1)] pn_RX1 rfl (Nat.le_of_ble_eq_true rfl) ?_
  intro p e s m args below meth c C hz hu ht
  have hs : s.heap.size = n0 ∧ slT s.heap = u0 := ⟨hz, hu⟩
  refine a_world (V1 := OW h0 n0 u0 E σ.2.2.1 σ) (OW.start hB) ?_
  unfold wp_X1_spray at hw
  refine a_aload_0 (pc := 0) C dX1_spray_0 ?_
  refine a_iload_1 (pc := 1) C dX1_spray_1 ?_
  refine o_callXVv (pc := 2) C hs [.int p1] (b := a) (ci := 0) (st := []) (fun h n u hB => ct_X1_needLot l G a _ E _ _ _ hw.2 h n u hB) (by decide) (by decide) rfl hw.1 q65 q1307 q1309 qs25 (lw_meth q1310) sg_X1_needLot (Nat.le_of_ble_eq_true rfl) dX1_spray_2 (fun σ1 hw => ?_) (fun k9 σx hx => ?_)
  · refine a_aload_0 (pc := 5) C dX1_spray_5 ?_
    obtain ⟨r2, fr2, hw⟩ := hw
    refine a_getf (pc := 6) C (ref := "MaltDrums") in_X1 (ci := 0) rfl 0 (by decide) q299 rfl (fun h n u hV => o_fld fr2 hV) dX1_spray_6 ?_
    refine a_iload_1 (pc := 9) C dX1_spray_9 ?_
    obtain ⟨w3, yw3, hw⟩ := hw
    refine o_callHi (pc := 10) C hs [.int p1] (st := []) yw3 (fun h n u hV => ct_X2_whyNotSpray l G _ _ _ _ hw h n u hV) (by decide) (by decide) q66 q1412 q1413 q1414 (lw_meth q1415) sg_X2_whyNotSpray (Nat.le_of_ble_eq_true rfl) dX1_spray_10 (fun v6 s4 hw => o_top (fun σ5 eσ5 => ?_))
    have hw := hw σ5 eσ5
    refine jn_use hw (fun kj8 ekj8 hw => ?_)
    have hkj8 : ∀ (x9 : Int32), kj8 x9 → AW G p l e (aRm 18 σ.2.2.1 (10 * σ.2.2.1)) s m args below meth c (a_A h0 n0) 2 (vx_MQ below (a_Qc G (o_pi Q h0 n0 u0 E σ.2.2.1) (a_A h0 n0)) (a_XC G (o_px X h0 E) (a_A h0 n0)) args s σ.2.2.1 (10 * σ.2.2.1) (a_A h0 n0)) (OW h0 n0 u0 E σ.2.2.1 σ5) 21 [some (.ref a), some (.int p1)] [.int x9] := by
      intro x9 hw
      rw [ekj8] at hw
      refine o_callXSv (pc := 21) C hs [.int x9] (st := []) (fun h n u hB => ct_X1_needState l G _ E _ _ _ hw h n u hB) (by decide) (by decide) (lw_S q1237 q1238 q65 q1239) sg_X1_needState (Nat.le_of_ble_eq_true rfl) dX1_spray_21 (fun σ10 hw => ?_) (fun k9 σx hx => ?_)
      · refine a_aload_0 (pc := 24) C dX1_spray_24 ?_
        refine o_callVv (pc := 25) C hs [] (b := a) (ci := 0) (st := []) (fun h n u hB => ct_X1_save l G a E _ _ hw.2 h n u hB) (by decide) (by decide) rfl hw.1 q65 q1256 q1258 qs22 (lw_meth q1259) sg_X1_save (Nat.le_of_ble_eq_true rfl) dX1_spray_25 (fun σ11 hw => ?_)
        refine a_aload_0 (pc := 28) C dX1_spray_28 ?_
        obtain ⟨r12, fr12, hw⟩ := hw
        refine a_getf (pc := 29) C (ref := "MaltDrums") in_X1 (ci := 0) rfl 0 (by decide) q299 rfl (fun h n u hV => o_fld fr12 hV) dX1_spray_29 ?_
        refine a_iload_1 (pc := 32) C dX1_spray_32 ?_
        obtain ⟨w13, yw13, hw⟩ := hw
        refine o_callHi (pc := 33) C hs [.int p1] (st := []) yw13 (fun h n u hV => ct_X2_spray l G _ _ _ _ hw h n u hV) (by decide) (by decide) q66 q1416 q1417 q1418 (lw_meth q1419) sg_X2_spray (Nat.le_of_ble_eq_true rfl) dX1_spray_33 (fun v16 s14 hw => o_top (fun σ15 eσ15 => ?_))
        have hw := hw σ15 eσ15
        exact a_xret (a_iret C dX1_spray_36 (fun h n u hV => ⟨⟨(_, _), rfl, hw, hV⟩, o_end hs hV⟩))
      · exact ax_out C (fun x hx => (ht x hx).elim) (fun h n u hV => ⟨⟨k9, σx, rfl, hx, hV.1.same rfl rfl rfl, hV.2.2.2.2.2.1⟩, o_end hs hV⟩)
    refine a_if_ne (pc := 13) C 20 dX1_spray_13 (by decide) (fun c7 => ?_) (fun c7 => ?_)
    · have hw := hw.1 c7
      refine a_iconst (pc := 20) C dX1_spray_20 ic_0 ?_
      exact hkj8 _ hw
    · have hw := hw.2 c7
      refine a_iconst (pc := 16) C dX1_spray_16 ic_1 ?_
      refine a_goto (pc := 17) C 21 dX1_spray_17 (by decide) ?_
      exact hkj8 _ hw
  · exact ax_out C (fun x hx => (ht x hx).elim) (fun h n u hV => ⟨⟨k9, σx, rfl, hx, hV.1.same rfl rfl rfl, hV.2.2.2.2.2.1⟩, o_end hs hV⟩)
def wp_X1_needStep (p1 : Int32) (σ : OS) (Q : OS → Prop) (X : Nat → OS → Prop) : Prop := (wp_X1_isWithin p1 0 3 (fun v1 => wp_X1_needArgument v1 σ (fun σ2 => (Q σ2)) X))
theorem sg_X1_needStep : aSig yX1_needStep 1 := by decide +kernel
set_option maxHeartbeats 4000000 in
theorem ct_X1_needStep (l : Launch) (G : aG) (p1 : Int32) (E : Nat → Prop) (σ : OS) (Q : OS → Prop) (X : Nat → OS → Prop) (hw : wp_X1_needStep p1 σ Q X) (h0 : AH) (n0 u0 : Nat) (hB : OB h0 n0 E σ) : CTX l yX1_needStep (ws_ yX1_needStep cX1_needStep 1 none) 7 G [.int p1] h0 n0 u0 σ.2.2.1 (10 * σ.2.2.1) (o_pv Q h0 n0 u0 E σ.2.2.1) (o_px X h0 E) := by
  refine CTX.intro [some (.int p1)] pn_RX1 rfl (Nat.le_of_ble_eq_true rfl) ?_
  intro p e s m args below meth c C hz hu ht
  have hs : s.heap.size = n0 ∧ slT s.heap = u0 := ⟨hz, hu⟩
  refine a_world (V1 := OW h0 n0 u0 E σ.2.2.1 σ) (OW.start hB) ?_
  unfold wp_X1_needStep at hw
  refine a_iload_0 (pc := 0) C dX1_needStep_0 ?_
  refine a_iconst (pc := 1) C dX1_needStep_1 ic_0 ?_
  refine a_iconst (pc := 2) C dX1_needStep_2 ic_3 ?_
  refine o_callSp (pc := 3) C hs [.int p1, .int 0, .int 3] (st := []) (fun h n u => ct_X1_isWithin l G _ _ _ _ hw h n u) (by decide) (by decide) (lw_S q1230 q856 q65 q857) sg_X1_isWithin (Nat.le_of_ble_eq_true rfl) dX1_needStep_3 (fun v1 hw => ?_)
  refine o_callXSv (pc := 6) C hs [.int v1] (st := []) (fun h n u hB => ct_X1_needArgument l G _ E _ _ _ hw h n u hB) (by decide) (by decide) (lw_S q1231 q1232 q65 q1233) sg_X1_needArgument (Nat.le_of_ble_eq_true rfl) dX1_needStep_6 (fun σ2 hw => ?_) (fun k9 σx hx => ?_)
  · exact a_xret (a_vret C dX1_needStep_9 (fun h n u hV => ⟨⟨_, rfl, hw, hV⟩, o_end hs hV⟩))
  · exact ax_out C (fun x hx => (ht x hx).elim) (fun h n u hV => ⟨⟨k9, σx, rfl, hx, hV.1.same rfl rfl rfl, hV.2.2.2.2.2.1⟩, o_end hs hV⟩)
def wp_X1_setAir (a : Nat) (p1 : Int32) (p2 : Int32) (σ : OS) (Q : Int32 → OS → Prop) (X : Nat → OS → Prop) : Prop := (wp_X1_isDrum p1 (fun v1 => wp_X1_needThere v1 σ (fun σ2 => wp_X1_needStep p2 σ2 (fun σ3 => (oC σ3 a 0 ∧ wp_X1_save a σ3 (fun σ4 => (∃ r5 : Nat, oF σ4 a 0 0 (.ref r5) ∧ (∃ w6 : MS × List Int32, σ4.2.1 r5 = some w6 ∧ (∃ w7 : MS × List Int32, σ4.2.1 r5 = some w7 ∧ vp_in p1 4 ∧ (∃ w8 : MS × List Int32, σ4.2.1 r5 = some w8 ∧ (p1.toNatClampNeg) < 4 ∧ (∀ x9 : Int32, x9 = w8.1 8 (p1.toNatClampNeg) → (∃ r10 : Nat, oF σ4 a 0 0 (.ref r10) ∧ (∃ w11 : MS × List Int32, σ4.2.1 r10 = some w11 ∧ (∃ w12 : MS × List Int32, σ4.2.1 r10 = some w12 ∧ vp_in p1 4 ∧ (∃ w14 : MS × List Int32, σ4.2.1 r10 = some w14 ∧ (p1.toNatClampNeg) < 4 ∧ ∀ σ13 : OS, σ13 = (oHc σ4 r10 (hU (w14.1, w14.2, σ4.2.2.1) (7 + 1) (p1.toNatClampNeg) p2)) → (Q x9 σ13))))))))))))) X) X))
theorem sg_X1_setAir : aSig yX1_setAir 2 := by decide +kernel
set_option maxHeartbeats 4000000 in
theorem ct_X1_setAir (l : Launch) (G : aG) (a : Nat) (p1 : Int32) (p2 : Int32) (E : Nat → Prop) (σ : OS) (Q : Int32 → OS → Prop) (X : Nat → OS → Prop) (hw : wp_X1_setAir a p1 p2 σ Q X) (h0 : AH) (n0 u0 : Nat) (hB : OB h0 n0 E σ) : CTX l yX1_setAir (ws_ yX1_setAir cX1_setAir 4 (some .int)) 8 G [.ref a, .int p1, .int p2] h0 n0 u0 σ.2.2.1 (10 * σ.2.2.1) (o_pi Q h0 n0 u0 E σ.2.2.1) (o_px X h0 E) := by
  refine CTX.intro [some (.ref a), some (.int p1), some (.int p2), none] pn_RX1 rfl (Nat.le_of_ble_eq_true rfl) ?_
  intro p e s m args below meth c C hz hu ht
  have hs : s.heap.size = n0 ∧ slT s.heap = u0 := ⟨hz, hu⟩
  refine a_world (V1 := OW h0 n0 u0 E σ.2.2.1 σ) (OW.start hB) ?_
  unfold wp_X1_setAir at hw
  refine a_iload_1 (pc := 0) C dX1_setAir_0 ?_
  refine o_callSp (pc := 1) C hs [.int p1] (st := []) (fun h n u => ct_X1_isDrum l G _ _ hw h n u) (by decide) (by decide) (lw_S q1348 q1349 q65 q1350) sg_X1_isDrum (Nat.le_of_ble_eq_true rfl) dX1_setAir_1 (fun v1 hw => ?_)
  refine o_callXSv (pc := 4) C hs [.int v1] (st := []) (fun h n u hB => ct_X1_needThere l G _ E _ _ _ hw h n u hB) (by decide) (by decide) (lw_S q1315 q1316 q65 q1317) sg_X1_needThere (Nat.le_of_ble_eq_true rfl) dX1_setAir_4 (fun σ2 hw => ?_) (fun k9 σx hx => ?_)
  · refine a_iload_2 (pc := 7) C dX1_setAir_7 ?_
    refine o_callXSv (pc := 8) C hs [.int p2] (st := []) (fun h n u hB => ct_X1_needStep l G _ E _ _ _ hw h n u hB) (by decide) (by decide) (lw_S q1427 q1428 q65 q1429) sg_X1_needStep (Nat.le_of_ble_eq_true rfl) dX1_setAir_8 (fun σ3 hw => ?_) (fun k9 σx hx => ?_)
    · refine a_aload_0 (pc := 11) C dX1_setAir_11 ?_
      refine o_callVv (pc := 12) C hs [] (b := a) (ci := 0) (st := []) (fun h n u hB => ct_X1_save l G a E _ _ hw.2 h n u hB) (by decide) (by decide) rfl hw.1 q65 q1256 q1258 qs22 (lw_meth q1259) sg_X1_save (Nat.le_of_ble_eq_true rfl) dX1_setAir_12 (fun σ4 hw => ?_)
      refine a_aload_0 (pc := 15) C dX1_setAir_15 ?_
      obtain ⟨r5, fr5, hw⟩ := hw
      refine a_getf (pc := 16) C (ref := "MaltDrums") in_X1 (ci := 0) rfl 0 (by decide) q299 rfl (fun h n u hV => o_fld fr5 hV) dX1_setAir_16 ?_
      obtain ⟨w6, yw6, hw⟩ := hw
      refine a_getfN (pc := 19) C (ref := "MaltDrums$House") (v := .ref (r5 + 8)) in_X2 (ci := 1) rfl 7 (by decide) q172 rfl (fun h n u hV => o_hfld yw6 (fun _ => rfl) hV) dX1_setAir_19 ?_
      refine a_iload_1 (pc := 22) C dX1_setAir_22 ?_
      obtain ⟨w7, yw7, iw7, hw⟩ := hw
      refine o_haald (pc := 23) C yw7 iw7 dX1_setAir_23 ?_
      obtain ⟨w8, yw8, dw8, hw⟩ := hw
      refine a_getfN (pc := 24) C (ref := "MaltDrums$Drum") (v := .int (w8.1 8 (p1.toNatClampNeg))) in_X5 (ci := 3) rfl 1 (by decide) q143 rfl (fun h n u hV => o_hdr yw8 dw8 rfl hV) dX1_setAir_24 ?_
      refine a_topi (fun x9 ex9 => ?_)
      have hw := hw x9 ex9
      refine a_istore_3 (pc := 27) C dX1_setAir_27 (by decide) rfl ?_
      refine a_aload_0 (pc := 28) C dX1_setAir_28 ?_
      obtain ⟨r10, fr10, hw⟩ := hw
      refine a_getf (pc := 29) C (ref := "MaltDrums") in_X1 (ci := 0) rfl 0 (by decide) q299 rfl (fun h n u hV => o_fld fr10 hV) dX1_setAir_29 ?_
      obtain ⟨w11, yw11, hw⟩ := hw
      refine a_getfN (pc := 32) C (ref := "MaltDrums$House") (v := .ref (r10 + 8)) in_X2 (ci := 1) rfl 7 (by decide) q172 rfl (fun h n u hV => o_hfld yw11 (fun _ => rfl) hV) dX1_setAir_32 ?_
      refine a_iload_1 (pc := 35) C dX1_setAir_35 ?_
      obtain ⟨w12, yw12, iw12, hw⟩ := hw
      refine o_haald (pc := 36) C yw12 iw12 dX1_setAir_36 ?_
      refine a_iload_2 (pc := 37) C dX1_setAir_37 ?_
      obtain ⟨w14, yw14, dw14, hw⟩ := hw
      refine a_dom fun h n u hV hdm => ?_
      refine a_putfN (pc := 38) C (ref := "MaltDrums$Drum") (V1 := OW h0 n0 u0 E σ.2.2.1 (oHc σ4 r10 (hU (w14.1, w14.2, σ4.2.2.1) (7 + 1) (p1.toNatClampNeg) p2))) in_X5 tyX5 tyX5_ok nmX5 (ci := 3) rfl 1 (by decide) q143 rfl rfl rfl rfl (fun h n u hI => by obtain ⟨rfl, rfl, rfl⟩ := hI; exact o_hputd (k := 1) (x := p2) yw14 (by decide) dw14 hdm hV) dX1_setAir_38 (o_top (fun σ13 eσ13 => ?_))
      have hw := hw σ13 eσ13
      refine a_iload_3 (pc := 41) C dX1_setAir_41 ?_
      exact a_xret (a_iret C dX1_setAir_42 (fun h n u hV => ⟨⟨(_, _), rfl, hw, hV⟩, o_end hs hV⟩))
    · exact ax_out C (fun x hx => (ht x hx).elim) (fun h n u hV => ⟨⟨k9, σx, rfl, hx, hV.1.same rfl rfl rfl, hV.2.2.2.2.2.1⟩, o_end hs hV⟩)
  · exact ax_out C (fun x hx => (ht x hx).elim) (fun h n u hV => ⟨⟨k9, σx, rfl, hx, hV.1.same rfl rfl rfl, hV.2.2.2.2.2.1⟩, o_end hs hV⟩)
def wp_X1_setDew (a : Nat) (p1 : Int32) (p2 : Int32) (σ : OS) (Q : Int32 → OS → Prop) (X : Nat → OS → Prop) : Prop := (wp_X1_isDrum p1 (fun v1 => wp_X1_needThere v1 σ (fun σ2 => wp_X1_needStep p2 σ2 (fun σ3 => (oC σ3 a 0 ∧ wp_X1_save a σ3 (fun σ4 => (∃ r5 : Nat, oF σ4 a 0 0 (.ref r5) ∧ (∃ w6 : MS × List Int32, σ4.2.1 r5 = some w6 ∧ (∃ w7 : MS × List Int32, σ4.2.1 r5 = some w7 ∧ vp_in p1 4 ∧ (∃ w8 : MS × List Int32, σ4.2.1 r5 = some w8 ∧ (p1.toNatClampNeg) < 4 ∧ (∀ x9 : Int32, x9 = w8.1 9 (p1.toNatClampNeg) → (∃ r10 : Nat, oF σ4 a 0 0 (.ref r10) ∧ (∃ w11 : MS × List Int32, σ4.2.1 r10 = some w11 ∧ (∃ w12 : MS × List Int32, σ4.2.1 r10 = some w12 ∧ vp_in p1 4 ∧ (∃ w14 : MS × List Int32, σ4.2.1 r10 = some w14 ∧ (p1.toNatClampNeg) < 4 ∧ ∀ σ13 : OS, σ13 = (oHc σ4 r10 (hU (w14.1, w14.2, σ4.2.2.1) (7 + 2) (p1.toNatClampNeg) p2)) → (Q x9 σ13))))))))))))) X) X))
theorem sg_X1_setDew : aSig yX1_setDew 2 := by decide +kernel
set_option maxHeartbeats 4000000 in
theorem ct_X1_setDew (l : Launch) (G : aG) (a : Nat) (p1 : Int32) (p2 : Int32) (E : Nat → Prop) (σ : OS) (Q : Int32 → OS → Prop) (X : Nat → OS → Prop) (hw : wp_X1_setDew a p1 p2 σ Q X) (h0 : AH) (n0 u0 : Nat) (hB : OB h0 n0 E σ) : CTX l yX1_setDew (ws_ yX1_setDew cX1_setDew 4 (some .int)) 8 G [.ref a, .int p1, .int p2] h0 n0 u0 σ.2.2.1 (10 * σ.2.2.1) (o_pi Q h0 n0 u0 E σ.2.2.1) (o_px X h0 E) := by
  refine CTX.intro [some (.ref a), some (.int p1), some (.int p2), none] pn_RX1 rfl (Nat.le_of_ble_eq_true rfl) ?_
  intro p e s m args below meth c C hz hu ht
  have hs : s.heap.size = n0 ∧ slT s.heap = u0 := ⟨hz, hu⟩
  refine a_world (V1 := OW h0 n0 u0 E σ.2.2.1 σ) (OW.start hB) ?_
  unfold wp_X1_setDew at hw
  refine a_iload_1 (pc := 0) C dX1_setDew_0 ?_
  refine o_callSp (pc := 1) C hs [.int p1] (st := []) (fun h n u => ct_X1_isDrum l G _ _ hw h n u) (by decide) (by decide) (lw_S q1348 q1349 q65 q1350) sg_X1_isDrum (Nat.le_of_ble_eq_true rfl) dX1_setDew_1 (fun v1 hw => ?_)
  refine o_callXSv (pc := 4) C hs [.int v1] (st := []) (fun h n u hB => ct_X1_needThere l G _ E _ _ _ hw h n u hB) (by decide) (by decide) (lw_S q1315 q1316 q65 q1317) sg_X1_needThere (Nat.le_of_ble_eq_true rfl) dX1_setDew_4 (fun σ2 hw => ?_) (fun k9 σx hx => ?_)
  · refine a_iload_2 (pc := 7) C dX1_setDew_7 ?_
    refine o_callXSv (pc := 8) C hs [.int p2] (st := []) (fun h n u hB => ct_X1_needStep l G _ E _ _ _ hw h n u hB) (by decide) (by decide) (lw_S q1427 q1428 q65 q1429) sg_X1_needStep (Nat.le_of_ble_eq_true rfl) dX1_setDew_8 (fun σ3 hw => ?_) (fun k9 σx hx => ?_)
    · refine a_aload_0 (pc := 11) C dX1_setDew_11 ?_
      refine o_callVv (pc := 12) C hs [] (b := a) (ci := 0) (st := []) (fun h n u hB => ct_X1_save l G a E _ _ hw.2 h n u hB) (by decide) (by decide) rfl hw.1 q65 q1256 q1258 qs22 (lw_meth q1259) sg_X1_save (Nat.le_of_ble_eq_true rfl) dX1_setDew_12 (fun σ4 hw => ?_)
      refine a_aload_0 (pc := 15) C dX1_setDew_15 ?_
      obtain ⟨r5, fr5, hw⟩ := hw
      refine a_getf (pc := 16) C (ref := "MaltDrums") in_X1 (ci := 0) rfl 0 (by decide) q299 rfl (fun h n u hV => o_fld fr5 hV) dX1_setDew_16 ?_
      obtain ⟨w6, yw6, hw⟩ := hw
      refine a_getfN (pc := 19) C (ref := "MaltDrums$House") (v := .ref (r5 + 8)) in_X2 (ci := 1) rfl 7 (by decide) q172 rfl (fun h n u hV => o_hfld yw6 (fun _ => rfl) hV) dX1_setDew_19 ?_
      refine a_iload_1 (pc := 22) C dX1_setDew_22 ?_
      obtain ⟨w7, yw7, iw7, hw⟩ := hw
      refine o_haald (pc := 23) C yw7 iw7 dX1_setDew_23 ?_
      obtain ⟨w8, yw8, dw8, hw⟩ := hw
      refine a_getfN (pc := 24) C (ref := "MaltDrums$Drum") (v := .int (w8.1 9 (p1.toNatClampNeg))) in_X5 (ci := 3) rfl 2 (by decide) q145 rfl (fun h n u hV => o_hdr yw8 dw8 rfl hV) dX1_setDew_24 ?_
      refine a_topi (fun x9 ex9 => ?_)
      have hw := hw x9 ex9
      refine a_istore_3 (pc := 27) C dX1_setDew_27 (by decide) rfl ?_
      refine a_aload_0 (pc := 28) C dX1_setDew_28 ?_
      obtain ⟨r10, fr10, hw⟩ := hw
      refine a_getf (pc := 29) C (ref := "MaltDrums") in_X1 (ci := 0) rfl 0 (by decide) q299 rfl (fun h n u hV => o_fld fr10 hV) dX1_setDew_29 ?_
      obtain ⟨w11, yw11, hw⟩ := hw
      refine a_getfN (pc := 32) C (ref := "MaltDrums$House") (v := .ref (r10 + 8)) in_X2 (ci := 1) rfl 7 (by decide) q172 rfl (fun h n u hV => o_hfld yw11 (fun _ => rfl) hV) dX1_setDew_32 ?_
      refine a_iload_1 (pc := 35) C dX1_setDew_35 ?_
      obtain ⟨w12, yw12, iw12, hw⟩ := hw
      refine o_haald (pc := 36) C yw12 iw12 dX1_setDew_36 ?_
      refine a_iload_2 (pc := 37) C dX1_setDew_37 ?_
      obtain ⟨w14, yw14, dw14, hw⟩ := hw
      refine a_dom fun h n u hV hdm => ?_
      refine a_putfN (pc := 38) C (ref := "MaltDrums$Drum") (V1 := OW h0 n0 u0 E σ.2.2.1 (oHc σ4 r10 (hU (w14.1, w14.2, σ4.2.2.1) (7 + 2) (p1.toNatClampNeg) p2))) in_X5 tyX5 tyX5_ok nmX5 (ci := 3) rfl 2 (by decide) q145 rfl rfl rfl rfl (fun h n u hI => by obtain ⟨rfl, rfl, rfl⟩ := hI; exact o_hputd (k := 2) (x := p2) yw14 (by decide) dw14 hdm hV) dX1_setDew_38 (o_top (fun σ13 eσ13 => ?_))
      have hw := hw σ13 eσ13
      refine a_iload_3 (pc := 41) C dX1_setDew_41 ?_
      exact a_xret (a_iret C dX1_setDew_42 (fun h n u hV => ⟨⟨(_, _), rfl, hw, hV⟩, o_end hs hV⟩))
    · exact ax_out C (fun x hx => (ht x hx).elim) (fun h n u hV => ⟨⟨k9, σx, rfl, hx, hV.1.same rfl rfl rfl, hV.2.2.2.2.2.1⟩, o_end hs hV⟩)
  · exact ax_out C (fun x hx => (ht x hx).elim) (fun h n u hV => ⟨⟨k9, σx, rfl, hx, hV.1.same rfl rfl rfl, hV.2.2.2.2.2.1⟩, o_end hs hV⟩)
def wp_X1_setTurn (a : Nat) (p1 : Int32) (p2 : Int32) (σ : OS) (Q : Int32 → OS → Prop) (X : Nat → OS → Prop) : Prop := (wp_X1_isDrum p1 (fun v1 => wp_X1_needThere v1 σ (fun σ2 => wp_X1_needStep p2 σ2 (fun σ3 => (oC σ3 a 0 ∧ wp_X1_save a σ3 (fun σ4 => (∃ r5 : Nat, oF σ4 a 0 0 (.ref r5) ∧ (∃ w6 : MS × List Int32, σ4.2.1 r5 = some w6 ∧ (∃ w7 : MS × List Int32, σ4.2.1 r5 = some w7 ∧ vp_in p1 4 ∧ (∃ w8 : MS × List Int32, σ4.2.1 r5 = some w8 ∧ (p1.toNatClampNeg) < 4 ∧ (∀ x9 : Int32, x9 = w8.1 10 (p1.toNatClampNeg) → (∃ r10 : Nat, oF σ4 a 0 0 (.ref r10) ∧ (∃ w11 : MS × List Int32, σ4.2.1 r10 = some w11 ∧ (∃ w12 : MS × List Int32, σ4.2.1 r10 = some w12 ∧ vp_in p1 4 ∧ (∃ w14 : MS × List Int32, σ4.2.1 r10 = some w14 ∧ (p1.toNatClampNeg) < 4 ∧ ∀ σ13 : OS, σ13 = (oHc σ4 r10 (hU (w14.1, w14.2, σ4.2.2.1) (7 + 3) (p1.toNatClampNeg) p2)) → (Q x9 σ13))))))))))))) X) X))
theorem sg_X1_setTurn : aSig yX1_setTurn 2 := by decide +kernel
set_option maxHeartbeats 4000000 in
theorem ct_X1_setTurn (l : Launch) (G : aG) (a : Nat) (p1 : Int32) (p2 : Int32) (E : Nat → Prop) (σ : OS) (Q : Int32 → OS → Prop) (X : Nat → OS → Prop) (hw : wp_X1_setTurn a p1 p2 σ Q X) (h0 : AH) (n0 u0 : Nat) (hB : OB h0 n0 E σ) : CTX l yX1_setTurn (ws_ yX1_setTurn cX1_setTurn 4 (some .int)) 8 G [.ref a, .int p1, .int p2] h0 n0 u0 σ.2.2.1 (10 * σ.2.2.1) (o_pi Q h0 n0 u0 E σ.2.2.1) (o_px X h0 E) := by
  refine CTX.intro [some (.ref a), some (.int p1), some (.int p2), none] pn_RX1 rfl (Nat.le_of_ble_eq_true rfl) ?_
  intro p e s m args below meth c C hz hu ht
  have hs : s.heap.size = n0 ∧ slT s.heap = u0 := ⟨hz, hu⟩
  refine a_world (V1 := OW h0 n0 u0 E σ.2.2.1 σ) (OW.start hB) ?_
  unfold wp_X1_setTurn at hw
  refine a_iload_1 (pc := 0) C dX1_setTurn_0 ?_
  refine o_callSp (pc := 1) C hs [.int p1] (st := []) (fun h n u => ct_X1_isDrum l G _ _ hw h n u) (by decide) (by decide) (lw_S q1348 q1349 q65 q1350) sg_X1_isDrum (Nat.le_of_ble_eq_true rfl) dX1_setTurn_1 (fun v1 hw => ?_)
  refine o_callXSv (pc := 4) C hs [.int v1] (st := []) (fun h n u hB => ct_X1_needThere l G _ E _ _ _ hw h n u hB) (by decide) (by decide) (lw_S q1315 q1316 q65 q1317) sg_X1_needThere (Nat.le_of_ble_eq_true rfl) dX1_setTurn_4 (fun σ2 hw => ?_) (fun k9 σx hx => ?_)
  · refine a_iload_2 (pc := 7) C dX1_setTurn_7 ?_
    refine o_callXSv (pc := 8) C hs [.int p2] (st := []) (fun h n u hB => ct_X1_needStep l G _ E _ _ _ hw h n u hB) (by decide) (by decide) (lw_S q1427 q1428 q65 q1429) sg_X1_needStep (Nat.le_of_ble_eq_true rfl) dX1_setTurn_8 (fun σ3 hw => ?_) (fun k9 σx hx => ?_)
    · refine a_aload_0 (pc := 11) C dX1_setTurn_11 ?_
      refine o_callVv (pc := 12) C hs [] (b := a) (ci := 0) (st := []) (fun h n u hB => ct_X1_save l G a E _ _ hw.2 h n u hB) (by decide) (by decide) rfl hw.1 q65 q1256 q1258 qs22 (lw_meth q1259) sg_X1_save (Nat.le_of_ble_eq_true rfl) dX1_setTurn_12 (fun σ4 hw => ?_)
      refine a_aload_0 (pc := 15) C dX1_setTurn_15 ?_
      obtain ⟨r5, fr5, hw⟩ := hw
      refine a_getf (pc := 16) C (ref := "MaltDrums") in_X1 (ci := 0) rfl 0 (by decide) q299 rfl (fun h n u hV => o_fld fr5 hV) dX1_setTurn_16 ?_
      obtain ⟨w6, yw6, hw⟩ := hw
      refine a_getfN (pc := 19) C (ref := "MaltDrums$House") (v := .ref (r5 + 8)) in_X2 (ci := 1) rfl 7 (by decide) q172 rfl (fun h n u hV => o_hfld yw6 (fun _ => rfl) hV) dX1_setTurn_19 ?_
      refine a_iload_1 (pc := 22) C dX1_setTurn_22 ?_
      obtain ⟨w7, yw7, iw7, hw⟩ := hw
      refine o_haald (pc := 23) C yw7 iw7 dX1_setTurn_23 ?_
      obtain ⟨w8, yw8, dw8, hw⟩ := hw
      refine a_getfN (pc := 24) C (ref := "MaltDrums$Drum") (v := .int (w8.1 10 (p1.toNatClampNeg))) in_X5 (ci := 3) rfl 3 (by decide) q147 rfl (fun h n u hV => o_hdr yw8 dw8 rfl hV) dX1_setTurn_24 ?_
      refine a_topi (fun x9 ex9 => ?_)
      have hw := hw x9 ex9
      refine a_istore_3 (pc := 27) C dX1_setTurn_27 (by decide) rfl ?_
      refine a_aload_0 (pc := 28) C dX1_setTurn_28 ?_
      obtain ⟨r10, fr10, hw⟩ := hw
      refine a_getf (pc := 29) C (ref := "MaltDrums") in_X1 (ci := 0) rfl 0 (by decide) q299 rfl (fun h n u hV => o_fld fr10 hV) dX1_setTurn_29 ?_
      obtain ⟨w11, yw11, hw⟩ := hw
      refine a_getfN (pc := 32) C (ref := "MaltDrums$House") (v := .ref (r10 + 8)) in_X2 (ci := 1) rfl 7 (by decide) q172 rfl (fun h n u hV => o_hfld yw11 (fun _ => rfl) hV) dX1_setTurn_32 ?_
      refine a_iload_1 (pc := 35) C dX1_setTurn_35 ?_
      obtain ⟨w12, yw12, iw12, hw⟩ := hw
      refine o_haald (pc := 36) C yw12 iw12 dX1_setTurn_36 ?_
      refine a_iload_2 (pc := 37) C dX1_setTurn_37 ?_
      obtain ⟨w14, yw14, dw14, hw⟩ := hw
      refine a_dom fun h n u hV hdm => ?_
      refine a_putfN (pc := 38) C (ref := "MaltDrums$Drum") (V1 := OW h0 n0 u0 E σ.2.2.1 (oHc σ4 r10 (hU (w14.1, w14.2, σ4.2.2.1) (7 + 3) (p1.toNatClampNeg) p2))) in_X5 tyX5 tyX5_ok nmX5 (ci := 3) rfl 3 (by decide) q147 rfl rfl rfl rfl (fun h n u hI => by obtain ⟨rfl, rfl, rfl⟩ := hI; exact o_hputd (k := 3) (x := p2) yw14 (by decide) dw14 hdm hV) dX1_setTurn_38 (o_top (fun σ13 eσ13 => ?_))
      have hw := hw σ13 eσ13
      refine a_iload_3 (pc := 41) C dX1_setTurn_41 ?_
      exact a_xret (a_iret C dX1_setTurn_42 (fun h n u hV => ⟨⟨(_, _), rfl, hw, hV⟩, o_end hs hV⟩))
    · exact ax_out C (fun x hx => (ht x hx).elim) (fun h n u hV => ⟨⟨k9, σx, rfl, hx, hV.1.same rfl rfl rfl, hV.2.2.2.2.2.1⟩, o_end hs hV⟩)
  · exact ax_out C (fun x hx => (ht x hx).elim) (fun h n u hV => ⟨⟨k9, σx, rfl, hx, hV.1.same rfl rfl rfl, hV.2.2.2.2.2.1⟩, o_end hs hV⟩)
def wp_X1_setHeats (a : Nat) (p1 : Int32) (p2 : Int32) (σ : OS) (Q : Int32 → OS → Prop) (X : Nat → OS → Prop) : Prop := (wp_X1_isWithin p1 30 60 (fun v1 => (jn (fun (x4 : Int32) => wp_X1_needArgument x4 σ (fun σ5 => (∃ r6 : Nat, oF σ5 a 0 0 (.ref r6) ∧ (∃ w7 : MS × List Int32, σ5.2.1 r6 = some w7 ∧ (jn (fun (x10 : Int32) => wp_X1_needState x10 σ5 (fun σ11 => (oC σ11 a 0 ∧ wp_X1_save a σ11 (fun σ12 => (∃ r13 : Nat, oF σ12 a 0 0 (.ref r13) ∧ (∃ w14 : MS × List Int32, σ12.2.1 r13 = some w14 ∧ (∃ r15 : Nat, oF σ12 a 0 0 (.ref r15) ∧ (∃ w16 : MS × List Int32, σ12.2.1 r15 = some w16 ∧ (∀ x17 : Int32, x17 = (100 * (w14.1 11 5)) + (w16.1 11 6) → (∃ r18 : Nat, oF σ12 a 0 0 (.ref r18) ∧ (∃ w20 : MS × List Int32, σ12.2.1 r18 = some w20 ∧ ∀ σ19 : OS, σ19 = oHc σ12 r18 (hU (w20.1, w20.2, σ12.2.2.1) 11 5 p1) → (∃ r21 : Nat, oF σ19 a 0 0 (.ref r21) ∧ (∃ w23 : MS × List Int32, σ19.2.1 r21 = some w23 ∧ ∀ σ22 : OS, σ22 = oHc σ19 r21 (hU (w23.1, w23.2, σ19.2.2.1) 11 6 p2) → (Q x17 σ22))))))))))))) X) (fun kj9 => (((¬ (w7.1 11 3) = 0) → (kj9 0)) ∧ (((w7.1 11 3) = 0) → (kj9 1)))))))) X) (fun kj3 => (((v1 = 0) → (kj3 0)) ∧ ((¬ v1 = 0) → (wp_X1_isWithin p2 60 99 (fun v24 => (((v24 = 0) → (kj3 0)) ∧ ((¬ v24 = 0) → (kj3 1)))))))))))
theorem sg_X1_setHeats : aSig yX1_setHeats 2 := by decide +kernel
set_option maxHeartbeats 4000000 in
theorem ct_X1_setHeats (l : Launch) (G : aG) (a : Nat) (p1 : Int32) (p2 : Int32) (E : Nat → Prop) (σ : OS) (Q : Int32 → OS → Prop) (X : Nat → OS → Prop) (hw : wp_X1_setHeats a p1 p2 σ Q X) (h0 : AH) (n0 u0 : Nat) (hB : OB h0 n0 E σ) : CTX l yX1_setHeats (ws_ yX1_setHeats cX1_setHeats 4 (some .int)) 7 G [.ref a, .int p1, .int p2] h0 n0 u0 σ.2.2.1 (10 * σ.2.2.1) (o_pi Q h0 n0 u0 E σ.2.2.1) (o_px X h0 E) := by
  refine CTX.intro [some (.ref a), some (.int p1), some (.int p2), none] pn_RX1 rfl (Nat.le_of_ble_eq_true rfl) ?_
  intro p e s m args below meth c C hz hu ht
  have hs : s.heap.size = n0 ∧ slT s.heap = u0 := ⟨hz, hu⟩
  refine a_world (V1 := OW h0 n0 u0 E σ.2.2.1 σ) (OW.start hB) ?_
  unfold wp_X1_setHeats at hw
  refine a_iload_1 (pc := 0) C dX1_setHeats_0 ?_
  refine a_bipush (pc := 1) C dX1_setHeats_1 bc_30 ?_
  refine a_bipush (pc := 3) C dX1_setHeats_3 bc_60 ?_
  refine o_callSp (pc := 5) C hs [.int p1, .int 30, .int 60] (st := []) (fun h n u => ct_X1_isWithin l G _ _ _ _ hw h n u) (by decide) (by decide) (lw_S q1230 q856 q65 q857) sg_X1_isWithin (Nat.le_of_ble_eq_true rfl) dX1_setHeats_5 (fun v1 hw => ?_)
  refine jn_use hw (fun kj3 ekj3 hw => ?_)
  have hkj3 : ∀ (x4 : Int32), kj3 x4 → AW G p l e (aRm 7 σ.2.2.1 (10 * σ.2.2.1)) s m args below meth c (a_A h0 n0) 4 (vx_MQ below (a_Qc G (o_pi Q h0 n0 u0 E σ.2.2.1) (a_A h0 n0)) (a_XC G (o_px X h0 E) (a_A h0 n0)) args s σ.2.2.1 (10 * σ.2.2.1) (a_A h0 n0)) (OW h0 n0 u0 E σ.2.2.1 σ) 27 [some (.ref a), some (.int p1), some (.int p2), none] [.int x4] := by
    intro x4 hw
    rw [ekj3] at hw
    refine o_callXSv (pc := 27) C hs [.int x4] (st := []) (fun h n u hB => ct_X1_needArgument l G _ E _ _ _ hw h n u hB) (by decide) (by decide) (lw_S q1231 q1232 q65 q1233) sg_X1_needArgument (Nat.le_of_ble_eq_true rfl) dX1_setHeats_27 (fun σ5 hw => ?_) (fun k9 σx hx => ?_)
    · refine a_aload_0 (pc := 30) C dX1_setHeats_30 ?_
      obtain ⟨r6, fr6, hw⟩ := hw
      refine a_getf (pc := 31) C (ref := "MaltDrums") in_X1 (ci := 0) rfl 0 (by decide) q299 rfl (fun h n u hV => o_fld fr6 hV) dX1_setHeats_31 ?_
      obtain ⟨w7, yw7, hw⟩ := hw
      refine a_getfN (pc := 34) C (ref := "MaltDrums$House") (v := .int (w7.1 11 3)) in_X2 (ci := 1) rfl 13 (by decide) q183 rfl (fun h n u hV => o_hfld yw7 (fun _ => rfl) hV) dX1_setHeats_34 ?_
      refine jn_use hw (fun kj9 ekj9 hw => ?_)
      have hkj9 : ∀ (x10 : Int32), kj9 x10 → AW G p l e (aRm 7 σ.2.2.1 (10 * σ.2.2.1)) s m args below meth c (a_A h0 n0) 4 (vx_MQ below (a_Qc G (o_pi Q h0 n0 u0 E σ.2.2.1) (a_A h0 n0)) (a_XC G (o_px X h0 E) (a_A h0 n0)) args s σ.2.2.1 (10 * σ.2.2.1) (a_A h0 n0)) (OW h0 n0 u0 E σ.2.2.1 σ5) 45 [some (.ref a), some (.int p1), some (.int p2), none] [.int x10] := by
        intro x10 hw
        rw [ekj9] at hw
        refine o_callXSv (pc := 45) C hs [.int x10] (st := []) (fun h n u hB => ct_X1_needState l G _ E _ _ _ hw h n u hB) (by decide) (by decide) (lw_S q1237 q1238 q65 q1239) sg_X1_needState (Nat.le_of_ble_eq_true rfl) dX1_setHeats_45 (fun σ11 hw => ?_) (fun k9 σx hx => ?_)
        · refine a_aload_0 (pc := 48) C dX1_setHeats_48 ?_
          refine o_callVv (pc := 49) C hs [] (b := a) (ci := 0) (st := []) (fun h n u hB => ct_X1_save l G a E _ _ hw.2 h n u hB) (by decide) (by decide) rfl hw.1 q65 q1256 q1258 qs22 (lw_meth q1259) sg_X1_save (Nat.le_of_ble_eq_true rfl) dX1_setHeats_49 (fun σ12 hw => ?_)
          refine a_bipush (pc := 52) C dX1_setHeats_52 bc_100 ?_
          refine a_aload_0 (pc := 54) C dX1_setHeats_54 ?_
          obtain ⟨r13, fr13, hw⟩ := hw
          refine a_getf (pc := 55) C (ref := "MaltDrums") in_X1 (ci := 0) rfl 0 (by decide) q299 rfl (fun h n u hV => o_fld fr13 hV) dX1_setHeats_55 ?_
          obtain ⟨w14, yw14, hw⟩ := hw
          refine a_getfN (pc := 58) C (ref := "MaltDrums$House") (v := .int (w14.1 11 5)) in_X2 (ci := 1) rfl 15 (by decide) q187 rfl (fun h n u hV => o_hfld yw14 (fun _ => rfl) hV) dX1_setHeats_58 ?_
          refine a_imul (pc := 61) C dX1_setHeats_61 ?_
          refine a_aload_0 (pc := 62) C dX1_setHeats_62 ?_
          obtain ⟨r15, fr15, hw⟩ := hw
          refine a_getf (pc := 63) C (ref := "MaltDrums") in_X1 (ci := 0) rfl 0 (by decide) q299 rfl (fun h n u hV => o_fld fr15 hV) dX1_setHeats_63 ?_
          obtain ⟨w16, yw16, hw⟩ := hw
          refine a_getfN (pc := 66) C (ref := "MaltDrums$House") (v := .int (w16.1 11 6)) in_X2 (ci := 1) rfl 16 (by decide) q189 rfl (fun h n u hV => o_hfld yw16 (fun _ => rfl) hV) dX1_setHeats_66 ?_
          refine a_iadd (pc := 69) C dX1_setHeats_69 ?_
          refine a_topi (fun x17 ex17 => ?_)
          have hw := hw x17 ex17
          refine a_istore_3 (pc := 70) C dX1_setHeats_70 (by decide) rfl ?_
          refine a_aload_0 (pc := 71) C dX1_setHeats_71 ?_
          obtain ⟨r18, fr18, hw⟩ := hw
          refine a_getf (pc := 72) C (ref := "MaltDrums") in_X1 (ci := 0) rfl 0 (by decide) q299 rfl (fun h n u hV => o_fld fr18 hV) dX1_setHeats_72 ?_
          refine a_iload_1 (pc := 75) C dX1_setHeats_75 ?_
          obtain ⟨w20, yw20, hw⟩ := hw
          refine a_dom fun h n u hV hdm => ?_
          refine a_putfN (pc := 76) C (ref := "MaltDrums$House") (V1 := OW h0 n0 u0 E σ.2.2.1 (oHc σ12 r18 (hU (w20.1, w20.2, σ12.2.2.1) 11 5 p1))) in_X2 tyX2 tyX2_ok nmX2 (ci := 1) rfl 15 (by decide) q187 rfl rfl rfl rfl (fun h n u hI => by obtain ⟨rfl, rfl, rfl⟩ := hI; exact o_hputf (i := 5) (x := p1) yw20 (by decide) (fun z => absurd z (by decide)) hdm hV) dX1_setHeats_76 (o_top (fun σ19 eσ19 => ?_))
          have hw := hw σ19 eσ19
          refine a_aload_0 (pc := 79) C dX1_setHeats_79 ?_
          obtain ⟨r21, fr21, hw⟩ := hw
          refine a_getf (pc := 80) C (ref := "MaltDrums") in_X1 (ci := 0) rfl 0 (by decide) q299 rfl (fun h n u hV => o_fld fr21 hV) dX1_setHeats_80 ?_
          refine a_iload_2 (pc := 83) C dX1_setHeats_83 ?_
          obtain ⟨w23, yw23, hw⟩ := hw
          refine a_dom fun h n u hV hdm => ?_
          refine a_putfN (pc := 84) C (ref := "MaltDrums$House") (V1 := OW h0 n0 u0 E σ.2.2.1 (oHc σ19 r21 (hU (w23.1, w23.2, σ19.2.2.1) 11 6 p2))) in_X2 tyX2 tyX2_ok nmX2 (ci := 1) rfl 16 (by decide) q189 rfl rfl rfl rfl (fun h n u hI => by obtain ⟨rfl, rfl, rfl⟩ := hI; exact o_hputf (i := 6) (x := p2) yw23 (by decide) (fun z => absurd z (by decide)) hdm hV) dX1_setHeats_84 (o_top (fun σ22 eσ22 => ?_))
          have hw := hw σ22 eσ22
          refine a_iload_3 (pc := 87) C dX1_setHeats_87 ?_
          exact a_xret (a_iret C dX1_setHeats_88 (fun h n u hV => ⟨⟨(_, _), rfl, hw, hV⟩, o_end hs hV⟩))
        · exact ax_out C (fun x hx => (ht x hx).elim) (fun h n u hV => ⟨⟨k9, σx, rfl, hx, hV.1.same rfl rfl rfl, hV.2.2.2.2.2.1⟩, o_end hs hV⟩)
      refine a_if_ne (pc := 37) C 44 dX1_setHeats_37 (by decide) (fun c8 => ?_) (fun c8 => ?_)
      · have hw := hw.1 c8
        refine a_iconst (pc := 44) C dX1_setHeats_44 ic_0 ?_
        exact hkj9 _ hw
      · have hw := hw.2 c8
        refine a_iconst (pc := 40) C dX1_setHeats_40 ic_1 ?_
        refine a_goto (pc := 41) C 45 dX1_setHeats_41 (by decide) ?_
        exact hkj9 _ hw
    · exact ax_out C (fun x hx => (ht x hx).elim) (fun h n u hV => ⟨⟨k9, σx, rfl, hx, hV.1.same rfl rfl rfl, hV.2.2.2.2.2.1⟩, o_end hs hV⟩)
  refine a_if_eq (pc := 8) C 26 dX1_setHeats_8 (by decide) (fun c2 => ?_) (fun c2 => ?_)
  · have hw := hw.1 c2
    refine a_iconst (pc := 26) C dX1_setHeats_26 ic_0 ?_
    exact hkj3 _ hw
  · have hw := hw.2 c2
    refine a_iload_2 (pc := 11) C dX1_setHeats_11 ?_
    refine a_bipush (pc := 12) C dX1_setHeats_12 bc_60 ?_
    refine a_bipush (pc := 14) C dX1_setHeats_14 bc_99 ?_
    refine o_callSp (pc := 16) C hs [.int p2, .int 60, .int 99] (st := []) (fun h n u => ct_X1_isWithin l G _ _ _ _ hw h n u) (by decide) (by decide) (lw_S q1230 q856 q65 q857) sg_X1_isWithin (Nat.le_of_ble_eq_true rfl) dX1_setHeats_16 (fun v24 hw => ?_)
    refine a_if_eq (pc := 19) C 26 dX1_setHeats_19 (by decide) (fun c25 => ?_) (fun c25 => ?_)
    · have hw := hw.1 c25
      refine a_iconst (pc := 26) C dX1_setHeats_26 ic_0 ?_
      exact hkj3 _ hw
    · have hw := hw.2 c25
      refine a_iconst (pc := 22) C dX1_setHeats_22 ic_1 ?_
      refine a_goto (pc := 23) C 27 dX1_setHeats_23 (by decide) ?_
      exact hkj3 _ hw
def wp_X1_setSprays (a : Nat) (p1 : Int32) (σ : OS) (Q : Int32 → OS → Prop) (X : Nat → OS → Prop) : Prop := (wp_X1_isWithin p1 0 9 (fun v1 => wp_X1_needArgument v1 σ (fun σ2 => (oC σ2 a 0 ∧ wp_X1_save a σ2 (fun σ3 => (∃ r4 : Nat, oF σ3 a 0 0 (.ref r4) ∧ (∃ w5 : MS × List Int32, σ3.2.1 r4 = some w5 ∧ (∃ r6 : Nat, oF σ3 a 0 0 (.ref r6) ∧ (∃ w8 : MS × List Int32, σ3.2.1 r6 = some w8 ∧ ∀ σ7 : OS, σ7 = oHc σ3 r6 (hU (w8.1, w8.2, σ3.2.2.1) 11 7 p1) → (Q (w5.1 11 7) σ7)))))))) X))
theorem sg_X1_setSprays : aSig yX1_setSprays 1 := by decide +kernel
set_option maxHeartbeats 4000000 in
theorem ct_X1_setSprays (l : Launch) (G : aG) (a : Nat) (p1 : Int32) (E : Nat → Prop) (σ : OS) (Q : Int32 → OS → Prop) (X : Nat → OS → Prop) (hw : wp_X1_setSprays a p1 σ Q X) (h0 : AH) (n0 u0 : Nat) (hB : OB h0 n0 E σ) : CTX l yX1_setSprays (ws_ yX1_setSprays cX1_setSprays 3 (some .int)) 7 G [.ref a, .int p1] h0 n0 u0 σ.2.2.1 (10 * σ.2.2.1) (o_pi Q h0 n0 u0 E σ.2.2.1) (o_px X h0 E) := by
  refine CTX.intro [some (.ref a), some (.int p1), none] pn_RX1 rfl (Nat.le_of_ble_eq_true rfl) ?_
  intro p e s m args below meth c C hz hu ht
  have hs : s.heap.size = n0 ∧ slT s.heap = u0 := ⟨hz, hu⟩
  refine a_world (V1 := OW h0 n0 u0 E σ.2.2.1 σ) (OW.start hB) ?_
  unfold wp_X1_setSprays at hw
  refine a_iload_1 (pc := 0) C dX1_setSprays_0 ?_
  refine a_iconst (pc := 1) C dX1_setSprays_1 ic_0 ?_
  refine a_bipush (pc := 2) C dX1_setSprays_2 bc_9 ?_
  refine o_callSp (pc := 4) C hs [.int p1, .int 0, .int 9] (st := []) (fun h n u => ct_X1_isWithin l G _ _ _ _ hw h n u) (by decide) (by decide) (lw_S q1230 q856 q65 q857) sg_X1_isWithin (Nat.le_of_ble_eq_true rfl) dX1_setSprays_4 (fun v1 hw => ?_)
  refine o_callXSv (pc := 7) C hs [.int v1] (st := []) (fun h n u hB => ct_X1_needArgument l G _ E _ _ _ hw h n u hB) (by decide) (by decide) (lw_S q1231 q1232 q65 q1233) sg_X1_needArgument (Nat.le_of_ble_eq_true rfl) dX1_setSprays_7 (fun σ2 hw => ?_) (fun k9 σx hx => ?_)
  · refine a_aload_0 (pc := 10) C dX1_setSprays_10 ?_
    refine o_callVv (pc := 11) C hs [] (b := a) (ci := 0) (st := []) (fun h n u hB => ct_X1_save l G a E _ _ hw.2 h n u hB) (by decide) (by decide) rfl hw.1 q65 q1256 q1258 qs22 (lw_meth q1259) sg_X1_save (Nat.le_of_ble_eq_true rfl) dX1_setSprays_11 (fun σ3 hw => ?_)
    refine a_aload_0 (pc := 14) C dX1_setSprays_14 ?_
    obtain ⟨r4, fr4, hw⟩ := hw
    refine a_getf (pc := 15) C (ref := "MaltDrums") in_X1 (ci := 0) rfl 0 (by decide) q299 rfl (fun h n u hV => o_fld fr4 hV) dX1_setSprays_15 ?_
    obtain ⟨w5, yw5, hw⟩ := hw
    refine a_getfN (pc := 18) C (ref := "MaltDrums$House") (v := .int (w5.1 11 7)) in_X2 (ci := 1) rfl 17 (by decide) q191 rfl (fun h n u hV => o_hfld yw5 (fun _ => rfl) hV) dX1_setSprays_18 ?_
    refine a_istore_2 (pc := 21) C dX1_setSprays_21 (by decide) rfl ?_
    refine a_aload_0 (pc := 22) C dX1_setSprays_22 ?_
    obtain ⟨r6, fr6, hw⟩ := hw
    refine a_getf (pc := 23) C (ref := "MaltDrums") in_X1 (ci := 0) rfl 0 (by decide) q299 rfl (fun h n u hV => o_fld fr6 hV) dX1_setSprays_23 ?_
    refine a_iload_1 (pc := 26) C dX1_setSprays_26 ?_
    obtain ⟨w8, yw8, hw⟩ := hw
    refine a_dom fun h n u hV hdm => ?_
    refine a_putfN (pc := 27) C (ref := "MaltDrums$House") (V1 := OW h0 n0 u0 E σ.2.2.1 (oHc σ3 r6 (hU (w8.1, w8.2, σ3.2.2.1) 11 7 p1))) in_X2 tyX2 tyX2_ok nmX2 (ci := 1) rfl 17 (by decide) q191 rfl rfl rfl rfl (fun h n u hI => by obtain ⟨rfl, rfl, rfl⟩ := hI; exact o_hputf (i := 7) (x := p1) yw8 (by decide) (fun z => absurd z (by decide)) hdm hV) dX1_setSprays_27 (o_top (fun σ7 eσ7 => ?_))
    have hw := hw σ7 eσ7
    refine a_iload_2 (pc := 30) C dX1_setSprays_30 ?_
    exact a_xret (a_iret C dX1_setSprays_31 (fun h n u hV => ⟨⟨(_, _), rfl, hw, hV⟩, o_end hs hV⟩))
  · exact ax_out C (fun x hx => (ht x hx).elim) (fun h n u hV => ⟨⟨k9, σx, rfl, hx, hV.1.same rfl rfl rfl, hV.2.2.2.2.2.1⟩, o_end hs hV⟩)
def wp_X1_pass (a : Nat) (p1 : Int32) (σ : OS) (Q : Int32 → OS → Prop) (X : Nat → OS → Prop) : Prop := (wp_X1_isWithin p1 1 48 (fun v1 => wp_X1_needArgument v1 σ (fun σ2 => (oC σ2 a 0 ∧ wp_X1_save a σ2 (fun σ3 => (∃ r4 : Nat, oF σ3 a 0 0 (.ref r4) ∧ (∃ w5 : MS × List Int32, σ3.2.1 r4 = some w5 ∧ wp_X2_pass p1 (w5.1, w5.2, σ3.2.2.1) (fun v8 s6 => ∀ σ7 : OS, σ7 = oHc σ3 r4 s6 → (Q v8 σ7))))))) X))
theorem sg_X1_pass : aSig yX1_pass 1 := by decide +kernel
set_option maxHeartbeats 4000000 in
theorem ct_X1_pass (l : Launch) (G : aG) (a : Nat) (p1 : Int32) (E : Nat → Prop) (σ : OS) (Q : Int32 → OS → Prop) (X : Nat → OS → Prop) (hw : wp_X1_pass a p1 σ Q X) (h0 : AH) (n0 u0 : Nat) (hB : OB h0 n0 E σ) : CTX l yX1_pass (ws_ yX1_pass cX1_pass 2 (some .int)) 21 G [.ref a, .int p1] h0 n0 u0 σ.2.2.1 (10 * σ.2.2.1) (o_pi Q h0 n0 u0 E σ.2.2.1) (o_px X h0 E) := by
  refine CTX.intro [some (.ref a), some (.int p1)] pn_RX1 rfl (Nat.le_of_ble_eq_true rfl) ?_
  intro p e s m args below meth c C hz hu ht
  have hs : s.heap.size = n0 ∧ slT s.heap = u0 := ⟨hz, hu⟩
  refine a_world (V1 := OW h0 n0 u0 E σ.2.2.1 σ) (OW.start hB) ?_
  unfold wp_X1_pass at hw
  refine a_iload_1 (pc := 0) C dX1_pass_0 ?_
  refine a_iconst (pc := 1) C dX1_pass_1 ic_1 ?_
  refine a_bipush (pc := 2) C dX1_pass_2 bc_48 ?_
  refine o_callSp (pc := 4) C hs [.int p1, .int 1, .int 48] (st := []) (fun h n u => ct_X1_isWithin l G _ _ _ _ hw h n u) (by decide) (by decide) (lw_S q1230 q856 q65 q857) sg_X1_isWithin (Nat.le_of_ble_eq_true rfl) dX1_pass_4 (fun v1 hw => ?_)
  refine o_callXSv (pc := 7) C hs [.int v1] (st := []) (fun h n u hB => ct_X1_needArgument l G _ E _ _ _ hw h n u hB) (by decide) (by decide) (lw_S q1231 q1232 q65 q1233) sg_X1_needArgument (Nat.le_of_ble_eq_true rfl) dX1_pass_7 (fun σ2 hw => ?_) (fun k9 σx hx => ?_)
  · refine a_aload_0 (pc := 10) C dX1_pass_10 ?_
    refine o_callVv (pc := 11) C hs [] (b := a) (ci := 0) (st := []) (fun h n u hB => ct_X1_save l G a E _ _ hw.2 h n u hB) (by decide) (by decide) rfl hw.1 q65 q1256 q1258 qs22 (lw_meth q1259) sg_X1_save (Nat.le_of_ble_eq_true rfl) dX1_pass_11 (fun σ3 hw => ?_)
    refine a_aload_0 (pc := 14) C dX1_pass_14 ?_
    obtain ⟨r4, fr4, hw⟩ := hw
    refine a_getf (pc := 15) C (ref := "MaltDrums") in_X1 (ci := 0) rfl 0 (by decide) q299 rfl (fun h n u hV => o_fld fr4 hV) dX1_pass_15 ?_
    refine a_iload_1 (pc := 18) C dX1_pass_18 ?_
    obtain ⟨w5, yw5, hw⟩ := hw
    refine o_callHi (pc := 19) C hs [.int p1] (st := []) yw5 (fun h n u hV => ct_X2_pass l G _ _ _ _ hw h n u hV) (by decide) (by decide) q66 q1465 q1466 q1467 (lw_meth q1468) sg_X2_pass (Nat.le_of_ble_eq_true rfl) dX1_pass_19 (fun v8 s6 hw => o_top (fun σ7 eσ7 => ?_))
    have hw := hw σ7 eσ7
    exact a_xret (a_iret C dX1_pass_22 (fun h n u hV => ⟨⟨(_, _), rfl, hw, hV⟩, o_end hs hV⟩))
  · exact ax_out C (fun x hx => (ht x hx).elim) (fun h n u hV => ⟨⟨k9, σx, rfl, hx, hV.1.same rfl rfl rfl, hV.2.2.2.2.2.1⟩, o_end hs hV⟩)
def wp_X1_append (a : Nat) (p1 : Int32) (σ : OS) (Q : Int32 → OS → Prop) (X : Nat → OS → Prop) : Prop := (wp_X1_isWithin p1 32 126 (fun v1 => wp_X1_needArgument v1 σ (fun σ2 => (∃ r3 : Nat, oF σ2 a 0 3 (.ref r3) ∧ (oC σ2 r3 10 ∧ wp_J4_length r3 σ2 (fun v5 σ4 => (jn (fun (x8 : Int32) => wp_X1_needState x8 σ4 (fun σ9 => (∃ r10 : Nat, oF σ9 a 0 3 (.ref r10) ∧ (oC σ9 r10 10 ∧ wp_J4_append_3 r10 ((p1.toUInt32 % 65536).toInt32) σ9 (fun r12 σ11 => (∃ r13 : Nat, oF σ11 a 0 3 (.ref r13) ∧ (oC σ11 r13 10 ∧ wp_J4_length r13 σ11 (fun v15 σ14 => (Q v15 σ14)))))))) X) (fun kj7 => (((60 ≤ v5) → (kj7 0)) ∧ ((¬ 60 ≤ v5) → (kj7 1))))))))) X))
theorem sg_X1_append : aSig yX1_append 1 := by decide +kernel
set_option maxHeartbeats 4000000 in
theorem ct_X1_append (l : Launch) (G : aG) (a : Nat) (p1 : Int32) (E : Nat → Prop) (σ : OS) (Q : Int32 → OS → Prop) (X : Nat → OS → Prop) (hw : wp_X1_append a p1 σ Q X) (h0 : AH) (n0 u0 : Nat) (hB : OB h0 n0 E σ) : CTX l yX1_append (ws_ yX1_append cX1_append 2 (some .int)) 7 G [.ref a, .int p1] h0 n0 u0 σ.2.2.1 (10 * σ.2.2.1) (o_pi Q h0 n0 u0 E σ.2.2.1) (o_px X h0 E) := by
  refine CTX.intro [some (.ref a), some (.int p1)] pn_RX1 rfl (Nat.le_of_ble_eq_true rfl) ?_
  intro p e s m args below meth c C hz hu ht
  have hs : s.heap.size = n0 ∧ slT s.heap = u0 := ⟨hz, hu⟩
  refine a_world (V1 := OW h0 n0 u0 E σ.2.2.1 σ) (OW.start hB) ?_
  unfold wp_X1_append at hw
  refine a_iload_1 (pc := 0) C dX1_append_0 ?_
  refine a_bipush (pc := 1) C dX1_append_1 bc_32 ?_
  refine a_bipush (pc := 3) C dX1_append_3 bc_126 ?_
  refine o_callSp (pc := 5) C hs [.int p1, .int 32, .int 126] (st := []) (fun h n u => ct_X1_isWithin l G _ _ _ _ hw h n u) (by decide) (by decide) (lw_S q1230 q856 q65 q857) sg_X1_isWithin (Nat.le_of_ble_eq_true rfl) dX1_append_5 (fun v1 hw => ?_)
  refine o_callXSv (pc := 8) C hs [.int v1] (st := []) (fun h n u hB => ct_X1_needArgument l G _ E _ _ _ hw h n u hB) (by decide) (by decide) (lw_S q1231 q1232 q65 q1233) sg_X1_needArgument (Nat.le_of_ble_eq_true rfl) dX1_append_8 (fun σ2 hw => ?_) (fun k9 σx hx => ?_)
  · refine a_aload_0 (pc := 11) C dX1_append_11 ?_
    obtain ⟨r3, fr3, hw⟩ := hw
    refine a_getf (pc := 12) C (ref := "MaltDrums") in_X1 (ci := 0) rfl 3 (by decide) q303 rfl (fun h n u hV => o_fld fr3 hV) dX1_append_12 ?_
    refine o_callVi (pc := 15) C hs [] (b := r3) (ci := 10) (st := []) (fun h n u hB => ct_J4_length l G r3 E _ _ hw.2 h n u hB) (by decide) (by decide) rfl hw.1 q74 q317 q318 q319 (lw_meth q320) sg_J4_length (Nat.le_of_ble_eq_true rfl) dX1_append_15 (fun v5 σ4 hw => ?_)
    refine a_bipush (pc := 18) C dX1_append_18 bc_60 ?_
    refine jn_use hw (fun kj7 ekj7 hw => ?_)
    have hkj7 : ∀ (x8 : Int32), kj7 x8 → AW G p l e (aRm 7 σ.2.2.1 (10 * σ.2.2.1)) s m args below meth c (a_A h0 n0) 2 (vx_MQ below (a_Qc G (o_pi Q h0 n0 u0 E σ.2.2.1) (a_A h0 n0)) (a_XC G (o_px X h0 E) (a_A h0 n0)) args s σ.2.2.1 (10 * σ.2.2.1) (a_A h0 n0)) (OW h0 n0 u0 E σ.2.2.1 σ4) 28 [some (.ref a), some (.int p1)] [.int x8] := by
      intro x8 hw
      rw [ekj7] at hw
      refine o_callXSv (pc := 28) C hs [.int x8] (st := []) (fun h n u hB => ct_X1_needState l G _ E _ _ _ hw h n u hB) (by decide) (by decide) (lw_S q1237 q1238 q65 q1239) sg_X1_needState (Nat.le_of_ble_eq_true rfl) dX1_append_28 (fun σ9 hw => ?_) (fun k9 σx hx => ?_)
      · refine a_aload_0 (pc := 31) C dX1_append_31 ?_
        obtain ⟨r10, fr10, hw⟩ := hw
        refine a_getf (pc := 32) C (ref := "MaltDrums") in_X1 (ci := 0) rfl 3 (by decide) q303 rfl (fun h n u hV => o_fld fr10 hV) dX1_append_32 ?_
        refine a_iload_1 (pc := 35) C dX1_append_35 ?_
        refine a_i2c (pc := 36) C dX1_append_36 ?_
        refine o_callVr (pc := 37) C hs [.int ((p1.toUInt32 % 65536).toInt32)] (b := r10) (ci := 10) (st := []) (fun h n u hB => ct_J4_append_3 l G r10 _ E _ _ hw.2 h n u hB) (by decide) (by decide) rfl hw.1 q74 q1477 q1478 q1479 (lw_meth q1480) sg_J4_append_3 (Nat.le_of_ble_eq_true rfl) dX1_append_37 (fun r12 σ11 hw => ?_)
        refine a_pop (pc := 40) C dX1_append_40 rfl ?_
        refine a_aload_0 (pc := 41) C dX1_append_41 ?_
        obtain ⟨r13, fr13, hw⟩ := hw
        refine a_getf (pc := 42) C (ref := "MaltDrums") in_X1 (ci := 0) rfl 3 (by decide) q303 rfl (fun h n u hV => o_fld fr13 hV) dX1_append_42 ?_
        refine o_callVi (pc := 45) C hs [] (b := r13) (ci := 10) (st := []) (fun h n u hB => ct_J4_length l G r13 E _ _ hw.2 h n u hB) (by decide) (by decide) rfl hw.1 q74 q317 q318 q319 (lw_meth q320) sg_J4_length (Nat.le_of_ble_eq_true rfl) dX1_append_45 (fun v15 σ14 hw => ?_)
        exact a_xret (a_iret C dX1_append_48 (fun h n u hV => ⟨⟨(_, _), rfl, hw, hV⟩, o_end hs hV⟩))
      · exact ax_out C (fun x hx => (ht x hx).elim) (fun h n u hV => ⟨⟨k9, σx, rfl, hx, hV.1.same rfl rfl rfl, hV.2.2.2.2.2.1⟩, o_end hs hV⟩)
    refine a_icmp_ge (pc := 20) C 27 dX1_append_20 (by decide) (fun c6 => ?_) (fun c6 => ?_)
    · have hw := hw.1 c6
      refine a_iconst (pc := 27) C dX1_append_27 ic_0 ?_
      exact hkj7 _ hw
    · have hw := hw.2 c6
      refine a_iconst (pc := 23) C dX1_append_23 ic_1 ?_
      refine a_goto (pc := 24) C 28 dX1_append_24 (by decide) ?_
      exact hkj7 _ hw
  · exact ax_out C (fun x hx => (ht x hx).elim) (fun h n u hV => ⟨⟨k9, σx, rfl, hx, hV.1.same rfl rfl rfl, hV.2.2.2.2.2.1⟩, o_end hs hV⟩)
def wp_X1_undo (a : Nat) (σ : OS) (Q : Int32 → OS → Prop) (X : Nat → OS → Prop) : Prop := (∃ r1 : Nat, oF σ a 0 2 (.ref r1) ∧ (oC σ r1 9 ∧ wp_J2_isEmpty r1 σ (fun v3 σ2 => (jn (fun (x6 : Int32) => wp_X1_needState x6 σ2 (fun σ7 => (∃ r8 : Nat, oF σ7 a 0 2 (.ref r8) ∧ (oC σ7 r8 9 ∧ wp_J2_removeLast r8 σ7 (fun r10 σ9 => ((∃ w11, σ9.2.1 r10 = some w11) ∧ (∃ fs13 : List Value, σ9.1 a = some (.inr (0, fs13)) ∧ 0 < fs13.length ∧ ∀ σ12 : OS, σ12 = (oPut σ9 a (.inr (0, fs13.set 0 (.ref r10)))) → (∃ r14 : Nat, oF σ12 a 0 2 (.ref r14) ∧ (oC σ12 r14 9 ∧ wp_J2_size r14 σ12 (fun v16 σ15 => (Q v16 σ15)))))))))) X) (fun kj5 => (((¬ v3 = 0) → (kj5 0)) ∧ ((v3 = 0) → (kj5 1))))))))
theorem sg_X1_undo : aSig yX1_undo 0 := by decide +kernel
set_option maxHeartbeats 4000000 in
theorem ct_X1_undo (l : Launch) (G : aG) (a : Nat) (E : Nat → Prop) (σ : OS) (Q : Int32 → OS → Prop) (X : Nat → OS → Prop) (hw : wp_X1_undo a σ Q X) (h0 : AH) (n0 u0 : Nat) (hB : OB h0 n0 E σ) : CTX l yX1_undo (ws_ yX1_undo cX1_undo 1 (some .int)) 7 G [.ref a] h0 n0 u0 σ.2.2.1 (10 * σ.2.2.1) (o_pi Q h0 n0 u0 E σ.2.2.1) (o_px X h0 E) := by
  refine CTX.intro [some (.ref a)] pn_RX1 rfl (Nat.le_of_ble_eq_true rfl) ?_
  intro p e s m args below meth c C hz hu ht
  have hs : s.heap.size = n0 ∧ slT s.heap = u0 := ⟨hz, hu⟩
  refine a_world (V1 := OW h0 n0 u0 E σ.2.2.1 σ) (OW.start hB) ?_
  unfold wp_X1_undo at hw
  refine a_aload_0 (pc := 0) C dX1_undo_0 ?_
  obtain ⟨r1, fr1, hw⟩ := hw
  refine a_getf (pc := 1) C (ref := "MaltDrums") in_X1 (ci := 0) rfl 2 (by decide) q301 rfl (fun h n u hV => o_fld fr1 hV) dX1_undo_1 ?_
  refine o_callVi (pc := 4) C hs [] (b := r1) (ci := 9) (st := []) (fun h n u hB => ct_J2_isEmpty l G r1 E _ _ hw.2 h n u hB) (by decide) (by decide) rfl hw.1 q72 q1568 q1569 q1570 (lw_meth q1571) sg_J2_isEmpty (Nat.le_of_ble_eq_true rfl) dX1_undo_4 (fun v3 σ2 hw => ?_)
  refine jn_use hw (fun kj5 ekj5 hw => ?_)
  have hkj5 : ∀ (x6 : Int32), kj5 x6 → AW G p l e (aRm 7 σ.2.2.1 (10 * σ.2.2.1)) s m args below meth c (a_A h0 n0) 1 (vx_MQ below (a_Qc G (o_pi Q h0 n0 u0 E σ.2.2.1) (a_A h0 n0)) (a_XC G (o_px X h0 E) (a_A h0 n0)) args s σ.2.2.1 (10 * σ.2.2.1) (a_A h0 n0)) (OW h0 n0 u0 E σ.2.2.1 σ2) 15 [some (.ref a)] [.int x6] := by
    intro x6 hw
    rw [ekj5] at hw
    refine o_callXSv (pc := 15) C hs [.int x6] (st := []) (fun h n u hB => ct_X1_needState l G _ E _ _ _ hw h n u hB) (by decide) (by decide) (lw_S q1237 q1238 q65 q1239) sg_X1_needState (Nat.le_of_ble_eq_true rfl) dX1_undo_15 (fun σ7 hw => ?_) (fun k9 σx hx => ?_)
    · refine a_aload_0 (pc := 18) C dX1_undo_18 ?_
      refine a_aload_0 (pc := 19) C dX1_undo_19 ?_
      obtain ⟨r8, fr8, hw⟩ := hw
      refine a_getf (pc := 20) C (ref := "MaltDrums") in_X1 (ci := 0) rfl 2 (by decide) q301 rfl (fun h n u hV => o_fld fr8 hV) dX1_undo_20 ?_
      refine o_callVr (pc := 23) C hs [] (b := r8) (ci := 9) (st := [.ref a]) (fun h n u hB => ct_J2_removeLast l G r8 E _ _ hw.2 h n u hB) (by decide) (by decide) rfl hw.1 q72 q1572 q1573 q1574 (lw_meth q1575) sg_J2_removeLast (Nat.le_of_ble_eq_true rfl) dX1_undo_23 (fun r10 σ9 hw => ?_)
      refine a_castS (pc := 26) C (ci := 1) rfl (fun h n u hV => by obtain ⟨_, yw⟩ := hw.1; exact o_house yw hV) q109 dX1_undo_26 ?_
      have hw := hw.2
      obtain ⟨fs13, ffs13, kfs13, hw⟩ := hw
      refine a_putf (pc := 29) C (ref := "MaltDrums") (V1 := OW h0 n0 u0 E σ.2.2.1 (oPut σ9 a (.inr (0, fs13.set 0 (.ref r10))))) in_X1 tyX1 tyX1_ok nmX1 (ci := 0) rfl 0 (by decide) q299 rfl rfl rfl rfl (fun h n u hV => o_put (by decide) ffs13 kfs13 hV) dX1_undo_29 (o_top (fun σ12 eσ12 => ?_))
      have hw := hw σ12 eσ12
      refine a_aload_0 (pc := 32) C dX1_undo_32 ?_
      obtain ⟨r14, fr14, hw⟩ := hw
      refine a_getf (pc := 33) C (ref := "MaltDrums") in_X1 (ci := 0) rfl 2 (by decide) q301 rfl (fun h n u hV => o_fld fr14 hV) dX1_undo_33 ?_
      refine o_callVi (pc := 36) C hs [] (b := r14) (ci := 9) (st := []) (fun h n u hB => ct_J2_size l G r14 E _ _ hw.2 h n u hB) (by decide) (by decide) rfl hw.1 q72 q960 q961 q962 (lw_meth q963) sg_J2_size (Nat.le_of_ble_eq_true rfl) dX1_undo_36 (fun v16 σ15 hw => ?_)
      exact a_xret (a_iret C dX1_undo_39 (fun h n u hV => ⟨⟨(_, _), rfl, hw, hV⟩, o_end hs hV⟩))
    · exact ax_out C (fun x hx => (ht x hx).elim) (fun h n u hV => ⟨⟨k9, σx, rfl, hx, hV.1.same rfl rfl rfl, hV.2.2.2.2.2.1⟩, o_end hs hV⟩)
  refine a_if_ne (pc := 7) C 14 dX1_undo_7 (by decide) (fun c4 => ?_) (fun c4 => ?_)
  · have hw := hw.1 c4
    refine a_iconst (pc := 14) C dX1_undo_14 ic_0 ?_
    exact hkj5 _ hw
  · have hw := hw.2 c4
    refine a_iconst (pc := 10) C dX1_undo_10 ic_1 ?_
    refine a_goto (pc := 11) C 15 dX1_undo_11 (by decide) ?_
    exact hkj5 _ hw
def wp_X1_restore (a : Nat) (σ : OS) (Q : Int32 → OS → Prop) (X : Nat → OS → Prop) : Prop := (∃ b1 : Option Nat, oF σ a 0 1 (va_rf b1) ∧ (jn (fun (x3 : Int32) => wp_X1_needState x3 σ (fun σ4 => (oC σ4 a 0 ∧ wp_X1_save a σ4 (fun σ5 => (3 ≤ σ5.2.2.1 ∧ ∀ q6 : Nat, oFr σ5 q6 → (σ5.2.2.2.1 ≠ 0 → q6 = σ5.2.2.2.1) → ∀ σ7 : OS, σ7 = oNew σ5 q6 3 (.inr (1, [.null, .null, .null, .null, .null, .null, .null, .null, .null, .null, .int 0, .int 0, .int 0, .int 0, .int 0, .int 0, .int 0, .int 0, .int 0, .int 0, .int 0, .int 0])) → (∃ b8 : Option Nat, oF σ7 a 0 1 (va_rf b8) ∧ (∃ r9 : Nat, b8 = some r9 ∧ wp_X2_init_2 q6 r9 σ7 (fun σ10 => (∃ (y : MS) (L : List Int32), oHouse σ10 q6 y L ∧ ∀ σ11 : OS, σ11 = oFold σ10 q6 y L → (∃ fs13 : List Value, σ11.1 a = some (.inr (0, fs13)) ∧ 0 < fs13.length ∧ ∀ σ12 : OS, σ12 = (oPut σ11 a (.inr (0, fs13.set 0 (.ref q6)))) → (∃ r14 : Nat, oF σ12 a 0 0 (.ref r14) ∧ (∃ w15 : MS × List Int32, σ12.2.1 r14 = some w15 ∧ (Q (w15.1 11 2) σ12)))))))))))) X) (fun kj2 => ((b1 = none → (kj2 0)) ∧ (∀ r16 : Nat, b1 = some r16 → (kj2 1))))))
theorem sg_X1_restore : aSig yX1_restore 0 := by decide +kernel
set_option maxHeartbeats 4000000 in
theorem ct_X1_restore (l : Launch) (G : aG) (a : Nat) (E : Nat → Prop) (σ : OS) (Q : Int32 → OS → Prop) (X : Nat → OS → Prop) (hw : wp_X1_restore a σ Q X) (h0 : AH) (n0 u0 : Nat) (hB : OB h0 n0 E σ) : CTX l yX1_restore (ws_ yX1_restore cX1_restore 1 (some .int)) 7 G [.ref a] h0 n0 u0 σ.2.2.1 (10 * σ.2.2.1) (o_pi Q h0 n0 u0 E σ.2.2.1) (o_px X h0 E) := by
  refine CTX.intro [some (.ref a)] pn_RX1 rfl (Nat.le_of_ble_eq_true rfl) ?_
  intro p e s m args below meth c C hz hu ht
  have hs : s.heap.size = n0 ∧ slT s.heap = u0 := ⟨hz, hu⟩
  refine a_world (V1 := OW h0 n0 u0 E σ.2.2.1 σ) (OW.start hB) ?_
  unfold wp_X1_restore at hw
  refine a_aload_0 (pc := 0) C dX1_restore_0 ?_
  obtain ⟨b1, fb1, hw⟩ := hw
  refine a_getf (pc := 1) C (ref := "MaltDrums") in_X1 (ci := 0) rfl 1 (by decide) q300 rfl (fun h n u hV => o_fld fb1 hV) dX1_restore_1 ?_
  refine jn_use hw (fun kj2 ekj2 hw => ?_)
  have hkj2 : ∀ (x3 : Int32), kj2 x3 → AW G p l e (aRm 7 σ.2.2.1 (10 * σ.2.2.1)) s m args below meth c (a_A h0 n0) 1 (vx_MQ below (a_Qc G (o_pi Q h0 n0 u0 E σ.2.2.1) (a_A h0 n0)) (a_XC G (o_px X h0 E) (a_A h0 n0)) args s σ.2.2.1 (10 * σ.2.2.1) (a_A h0 n0)) (OW h0 n0 u0 E σ.2.2.1 σ) 12 [some (.ref a)] [.int x3] := by
    intro x3 hw
    rw [ekj2] at hw
    refine o_callXSv (pc := 12) C hs [.int x3] (st := []) (fun h n u hB => ct_X1_needState l G _ E _ _ _ hw h n u hB) (by decide) (by decide) (lw_S q1237 q1238 q65 q1239) sg_X1_needState (Nat.le_of_ble_eq_true rfl) dX1_restore_12 (fun σ4 hw => ?_) (fun k9 σx hx => ?_)
    · refine a_aload_0 (pc := 15) C dX1_restore_15 ?_
      refine o_callVv (pc := 16) C hs [] (b := a) (ci := 0) (st := []) (fun h n u hB => ct_X1_save l G a E _ _ hw.2 h n u hB) (by decide) (by decide) rfl hw.1 q65 q1256 q1258 qs22 (lw_meth q1259) sg_X1_save (Nat.le_of_ble_eq_true rfl) dX1_restore_16 (fun σ5 hw => ?_)
      refine a_aload_0 (pc := 19) C dX1_restore_19 ?_
      refine o_newC (pc := 20) C hs 3 in_X2 tyX2 tyX2_ok q109 q110 q66 (ci := 1) (fs := [.null, .null, .null, .null, .null, .null, .null, .null, .null, .null, .int 0, .int 0, .int 0, .int 0, .int 0, .int 0, .int 0, .int 0, .int 0, .int 0, .int 0, .int 0]) rfl (by decide) (fun f z => by cases z) (by decide) (by decide) hw.1 dX1_restore_20 (fun q6 frq6 nxq6 σ7 eσ7 => ?_)
      have hw := hw.2 q6 frq6 nxq6 σ7 eσ7
      refine a_dup (pc := 23) C dX1_restore_23 rfl ?_
      refine a_aload_0 (pc := 24) C dX1_restore_24 ?_
      obtain ⟨b8, fb8, hw⟩ := hw
      refine a_getf (pc := 25) C (ref := "MaltDrums") in_X1 (ci := 0) rfl 1 (by decide) q300 rfl (fun h n u hV => o_fld fb8 hV) dX1_restore_25 ?_
      obtain ⟨r9, zr9, hv9⟩ := hw
      subst zr9
      have hw := hv9
      refine o_callIv (pc := 28) C hs [.ref r9] (b := q6) (st := [.ref q6, .ref a]) (fun h n u hB => ct_X2_init_2 l G q6 _ E _ _ hw h n u hB) (by decide) (by decide) q66 q971 q972 rfl (lw_meth q973) sg_X2_init_2 (Nat.le_of_ble_eq_true rfl) dX1_restore_28 (fun σ10 hw => ?_)
      obtain ⟨y, L, hH, hw⟩ := hw
      refine a_world (fun h n u hV => hV.fold hH) ?_
      refine o_top (fun σ11 eσ11 => ?_)
      have hw := hw σ11 eσ11
      obtain ⟨fs13, ffs13, kfs13, hw⟩ := hw
      refine a_putf (pc := 31) C (ref := "MaltDrums") (V1 := OW h0 n0 u0 E σ.2.2.1 (oPut σ11 a (.inr (0, fs13.set 0 (.ref q6))))) in_X1 tyX1 tyX1_ok nmX1 (ci := 0) rfl 0 (by decide) q299 rfl rfl rfl rfl (fun h n u hV => o_put (by decide) ffs13 kfs13 hV) dX1_restore_31 (o_top (fun σ12 eσ12 => ?_))
      have hw := hw σ12 eσ12
      refine a_aload_0 (pc := 34) C dX1_restore_34 ?_
      obtain ⟨r14, fr14, hw⟩ := hw
      refine a_getf (pc := 35) C (ref := "MaltDrums") in_X1 (ci := 0) rfl 0 (by decide) q299 rfl (fun h n u hV => o_fld fr14 hV) dX1_restore_35 ?_
      obtain ⟨w15, yw15, hw⟩ := hw
      refine a_getfN (pc := 38) C (ref := "MaltDrums$House") (v := .int (w15.1 11 2)) in_X2 (ci := 1) rfl 12 (by decide) q181 rfl (fun h n u hV => o_hfld yw15 (fun _ => rfl) hV) dX1_restore_38 ?_
      exact a_xret (a_iret C dX1_restore_41 (fun h n u hV => ⟨⟨(_, _), rfl, hw, hV⟩, o_end hs hV⟩))
    · exact ax_out C (fun x hx => (ht x hx).elim) (fun h n u hV => ⟨⟨k9, σx, rfl, hx, hV.1.same rfl rfl rfl, hV.2.2.2.2.2.1⟩, o_end hs hV⟩)
  refine a_ifnullq (pc := 4) C 11 dX1_restore_4 (by decide) (fun c17 => ?_) (fun r16 c17 => ?_)
  · have hv9 := hw.1 c17
    subst c17
    have hw := hv9
    refine a_iconst (pc := 11) C dX1_restore_11 ic_0 ?_
    exact hkj2 _ hw
  · have hv9 := hw.2 r16 c17
    subst c17
    have hw := hv9
    refine a_iconst (pc := 7) C dX1_restore_7 ic_1 ?_
    refine a_goto (pc := 8) C 12 dX1_restore_8 (by decide) ?_
    exact hkj2 _ hw
def wp_X1_placeOf (a : Nat) (p1 : Int32) (σ : OS) (Q : Int32 → OS → Prop) (X : Nat → OS → Prop) : Prop := (oC σ a 0 ∧ wp_X1_needLot a p1 σ (fun σ1 => (∃ r2 : Nat, oF σ1 a 0 0 (.ref r2) ∧ (∃ w3 : MS × List Int32, σ1.2.1 r2 = some w3 ∧ (∃ w4 : MS × List Int32, σ1.2.1 r2 = some w4 ∧ vp_in p1 12 ∧ (Q (w4.1 6 p1.toNatClampNeg) σ1))))) X)
theorem sg_X1_placeOf : aSig yX1_placeOf 1 := by decide +kernel
set_option maxHeartbeats 4000000 in
theorem ct_X1_placeOf (l : Launch) (G : aG) (a : Nat) (p1 : Int32) (E : Nat → Prop) (σ : OS) (Q : Int32 → OS → Prop) (X : Nat → OS → Prop) (hw : wp_X1_placeOf a p1 σ Q X) (h0 : AH) (n0 u0 : Nat) (hB : OB h0 n0 E σ) : CTX l yX1_placeOf (ws_ yX1_placeOf cX1_placeOf 2 (some .int)) 8 G [.ref a, .int p1] h0 n0 u0 σ.2.2.1 (10 * σ.2.2.1) (o_pi Q h0 n0 u0 E σ.2.2.1) (o_px X h0 E) := by
  refine CTX.intro [some (.ref a), some (.int p1)] pn_RX1 rfl (Nat.le_of_ble_eq_true rfl) ?_
  intro p e s m args below meth c C hz hu ht
  have hs : s.heap.size = n0 ∧ slT s.heap = u0 := ⟨hz, hu⟩
  refine a_world (V1 := OW h0 n0 u0 E σ.2.2.1 σ) (OW.start hB) ?_
  unfold wp_X1_placeOf at hw
  refine a_aload_0 (pc := 0) C dX1_placeOf_0 ?_
  refine a_iload_1 (pc := 1) C dX1_placeOf_1 ?_
  refine o_callXVv (pc := 2) C hs [.int p1] (b := a) (ci := 0) (st := []) (fun h n u hB => ct_X1_needLot l G a _ E _ _ _ hw.2 h n u hB) (by decide) (by decide) rfl hw.1 q65 q1307 q1309 qs25 (lw_meth q1310) sg_X1_needLot (Nat.le_of_ble_eq_true rfl) dX1_placeOf_2 (fun σ1 hw => ?_) (fun k9 σx hx => ?_)
  · refine a_aload_0 (pc := 5) C dX1_placeOf_5 ?_
    obtain ⟨r2, fr2, hw⟩ := hw
    refine a_getf (pc := 6) C (ref := "MaltDrums") in_X1 (ci := 0) rfl 0 (by decide) q299 rfl (fun h n u hV => o_fld fr2 hV) dX1_placeOf_6 ?_
    obtain ⟨w3, yw3, hw⟩ := hw
    refine a_getfN (pc := 9) C (ref := "MaltDrums$House") (v := .ref (r2 + 1 + 6)) in_X2 (ci := 1) rfl 6 (by decide) q170 rfl (fun h n u hV => o_hfld yw3 (fun _ => rfl) hV) dX1_placeOf_9 ?_
    refine a_iload_1 (pc := 12) C dX1_placeOf_12 ?_
    obtain ⟨w4, yw4, iw4, hw⟩ := hw
    refine o_hiald (pc := 13) C yw4 (by decide) iw4 dX1_placeOf_13 ?_
    exact a_xret (a_iret C dX1_placeOf_14 (fun h n u hV => ⟨⟨(_, _), rfl, hw, hV⟩, o_end hs hV⟩))
  · exact ax_out C (fun x hx => (ht x hx).elim) (fun h n u hV => ⟨⟨k9, σx, rfl, hx, hV.1.same rfl rfl rfl, hV.2.2.2.2.2.1⟩, o_end hs hV⟩)
def wp_X1_drumOf (a : Nat) (p1 : Int32) (σ : OS) (Q : Int32 → OS → Prop) (X : Nat → OS → Prop) : Prop := (oC σ a 0 ∧ wp_X1_needLot a p1 σ (fun σ1 => (∃ r2 : Nat, oF σ1 a 0 0 (.ref r2) ∧ (∃ w3 : MS × List Int32, σ1.2.1 r2 = some w3 ∧ wp_X2_drumOf p1 (w3.1, w3.2, σ1.2.2.1) (fun v6 s4 => ∀ σ5 : OS, σ5 = oHc σ1 r2 s4 → (Q v6 σ5))))) X)
theorem sg_X1_drumOf : aSig yX1_drumOf 1 := by decide +kernel
set_option maxHeartbeats 4000000 in
theorem ct_X1_drumOf (l : Launch) (G : aG) (a : Nat) (p1 : Int32) (E : Nat → Prop) (σ : OS) (Q : Int32 → OS → Prop) (X : Nat → OS → Prop) (hw : wp_X1_drumOf a p1 σ Q X) (h0 : AH) (n0 u0 : Nat) (hB : OB h0 n0 E σ) : CTX l yX1_drumOf (ws_ yX1_drumOf cX1_drumOf 2 (some .int)) 8 G [.ref a, .int p1] h0 n0 u0 σ.2.2.1 (10 * σ.2.2.1) (o_pi Q h0 n0 u0 E σ.2.2.1) (o_px X h0 E) := by
  refine CTX.intro [some (.ref a), some (.int p1)] pn_RX1 rfl (Nat.le_of_ble_eq_true rfl) ?_
  intro p e s m args below meth c C hz hu ht
  have hs : s.heap.size = n0 ∧ slT s.heap = u0 := ⟨hz, hu⟩
  refine a_world (V1 := OW h0 n0 u0 E σ.2.2.1 σ) (OW.start hB) ?_
  unfold wp_X1_drumOf at hw
  refine a_aload_0 (pc := 0) C dX1_drumOf_0 ?_
  refine a_iload_1 (pc := 1) C dX1_drumOf_1 ?_
  refine o_callXVv (pc := 2) C hs [.int p1] (b := a) (ci := 0) (st := []) (fun h n u hB => ct_X1_needLot l G a _ E _ _ _ hw.2 h n u hB) (by decide) (by decide) rfl hw.1 q65 q1307 q1309 qs25 (lw_meth q1310) sg_X1_needLot (Nat.le_of_ble_eq_true rfl) dX1_drumOf_2 (fun σ1 hw => ?_) (fun k9 σx hx => ?_)
  · refine a_aload_0 (pc := 5) C dX1_drumOf_5 ?_
    obtain ⟨r2, fr2, hw⟩ := hw
    refine a_getf (pc := 6) C (ref := "MaltDrums") in_X1 (ci := 0) rfl 0 (by decide) q299 rfl (fun h n u hV => o_fld fr2 hV) dX1_drumOf_6 ?_
    refine a_iload_1 (pc := 9) C dX1_drumOf_9 ?_
    obtain ⟨w3, yw3, hw⟩ := hw
    refine o_callHi (pc := 10) C hs [.int p1] (st := []) yw3 (fun h n u hV => ct_X2_drumOf l G _ _ _ _ hw h n u hV) (by decide) (by decide) q66 q1604 q1045 q1046 (lw_meth q1047) sg_X2_drumOf (Nat.le_of_ble_eq_true rfl) dX1_drumOf_10 (fun v6 s4 hw => o_top (fun σ5 eσ5 => ?_))
    have hw := hw σ5 eσ5
    exact a_xret (a_iret C dX1_drumOf_13 (fun h n u hV => ⟨⟨(_, _), rfl, hw, hV⟩, o_end hs hV⟩))
  · exact ax_out C (fun x hx => (ht x hx).elim) (fun h n u hV => ⟨⟨k9, σx, rfl, hx, hV.1.same rfl rfl rfl, hV.2.2.2.2.2.1⟩, o_end hs hV⟩)
def wp_X1_weightOf (a : Nat) (p1 : Int32) (σ : OS) (Q : Int32 → OS → Prop) (X : Nat → OS → Prop) : Prop := (oC σ a 0 ∧ wp_X1_needLot a p1 σ (fun σ1 => (∃ r2 : Nat, oF σ1 a 0 0 (.ref r2) ∧ (∃ w3 : MS × List Int32, σ1.2.1 r2 = some w3 ∧ (∃ w4 : MS × List Int32, σ1.2.1 r2 = some w4 ∧ vp_in p1 12 ∧ (∃ r5 : Nat, oF σ1 a 0 0 (.ref r5) ∧ (∃ w6 : MS × List Int32, σ1.2.1 r5 = some w6 ∧ (∃ w7 : MS × List Int32, σ1.2.1 r5 = some w7 ∧ vp_in p1 12 ∧ (Q ((1000 * (w4.1 0 p1.toNatClampNeg)) + (w7.1 1 p1.toNatClampNeg)) σ1)))))))) X)
theorem sg_X1_weightOf : aSig yX1_weightOf 1 := by decide +kernel
set_option maxHeartbeats 4000000 in
theorem ct_X1_weightOf (l : Launch) (G : aG) (a : Nat) (p1 : Int32) (E : Nat → Prop) (σ : OS) (Q : Int32 → OS → Prop) (X : Nat → OS → Prop) (hw : wp_X1_weightOf a p1 σ Q X) (h0 : AH) (n0 u0 : Nat) (hB : OB h0 n0 E σ) : CTX l yX1_weightOf (ws_ yX1_weightOf cX1_weightOf 2 (some .int)) 8 G [.ref a, .int p1] h0 n0 u0 σ.2.2.1 (10 * σ.2.2.1) (o_pi Q h0 n0 u0 E σ.2.2.1) (o_px X h0 E) := by
  refine CTX.intro [some (.ref a), some (.int p1)] pn_RX1 rfl (Nat.le_of_ble_eq_true rfl) ?_
  intro p e s m args below meth c C hz hu ht
  have hs : s.heap.size = n0 ∧ slT s.heap = u0 := ⟨hz, hu⟩
  refine a_world (V1 := OW h0 n0 u0 E σ.2.2.1 σ) (OW.start hB) ?_
  unfold wp_X1_weightOf at hw
  refine a_aload_0 (pc := 0) C dX1_weightOf_0 ?_
  refine a_iload_1 (pc := 1) C dX1_weightOf_1 ?_
  refine o_callXVv (pc := 2) C hs [.int p1] (b := a) (ci := 0) (st := []) (fun h n u hB => ct_X1_needLot l G a _ E _ _ _ hw.2 h n u hB) (by decide) (by decide) rfl hw.1 q65 q1307 q1309 qs25 (lw_meth q1310) sg_X1_needLot (Nat.le_of_ble_eq_true rfl) dX1_weightOf_2 (fun σ1 hw => ?_) (fun k9 σx hx => ?_)
  · refine a_sipush (pc := 5) C dX1_weightOf_5 sc_1000 ?_
    refine a_aload_0 (pc := 8) C dX1_weightOf_8 ?_
    obtain ⟨r2, fr2, hw⟩ := hw
    refine a_getf (pc := 9) C (ref := "MaltDrums") in_X1 (ci := 0) rfl 0 (by decide) q299 rfl (fun h n u hV => o_fld fr2 hV) dX1_weightOf_9 ?_
    obtain ⟨w3, yw3, hw⟩ := hw
    refine a_getfN (pc := 12) C (ref := "MaltDrums$House") (v := .ref (r2 + 1 + 0)) in_X2 (ci := 1) rfl 0 (by decide) q158 rfl (fun h n u hV => o_hfld yw3 (fun _ => rfl) hV) dX1_weightOf_12 ?_
    refine a_iload_1 (pc := 15) C dX1_weightOf_15 ?_
    obtain ⟨w4, yw4, iw4, hw⟩ := hw
    refine o_hiald (pc := 16) C yw4 (by decide) iw4 dX1_weightOf_16 ?_
    refine a_imul (pc := 17) C dX1_weightOf_17 ?_
    refine a_aload_0 (pc := 18) C dX1_weightOf_18 ?_
    obtain ⟨r5, fr5, hw⟩ := hw
    refine a_getf (pc := 19) C (ref := "MaltDrums") in_X1 (ci := 0) rfl 0 (by decide) q299 rfl (fun h n u hV => o_fld fr5 hV) dX1_weightOf_19 ?_
    obtain ⟨w6, yw6, hw⟩ := hw
    refine a_getfN (pc := 22) C (ref := "MaltDrums$House") (v := .ref (r5 + 1 + 1)) in_X2 (ci := 1) rfl 1 (by decide) q160 rfl (fun h n u hV => o_hfld yw6 (fun _ => rfl) hV) dX1_weightOf_22 ?_
    refine a_iload_1 (pc := 25) C dX1_weightOf_25 ?_
    obtain ⟨w7, yw7, iw7, hw⟩ := hw
    refine o_hiald (pc := 26) C yw7 (by decide) iw7 dX1_weightOf_26 ?_
    refine a_iadd (pc := 27) C dX1_weightOf_27 ?_
    exact a_xret (a_iret C dX1_weightOf_28 (fun h n u hV => ⟨⟨(_, _), rfl, hw, hV⟩, o_end hs hV⟩))
  · exact ax_out C (fun x hx => (ht x hx).elim) (fun h n u hV => ⟨⟨k9, σx, rfl, hx, hV.1.same rfl rfl rfl, hV.2.2.2.2.2.1⟩, o_end hs hV⟩)
def wp_X1_wetnessOf (a : Nat) (p1 : Int32) (σ : OS) (Q : Int32 → OS → Prop) (X : Nat → OS → Prop) : Prop := (oC σ a 0 ∧ wp_X1_needLot a p1 σ (fun σ1 => (∃ r2 : Nat, oF σ1 a 0 0 (.ref r2) ∧ (∃ w3 : MS × List Int32, σ1.2.1 r2 = some w3 ∧ (∃ w4 : MS × List Int32, σ1.2.1 r2 = some w4 ∧ vp_in p1 12 ∧ (Q (w4.1 2 p1.toNatClampNeg) σ1))))) X)
theorem sg_X1_wetnessOf : aSig yX1_wetnessOf 1 := by decide +kernel
set_option maxHeartbeats 4000000 in
theorem ct_X1_wetnessOf (l : Launch) (G : aG) (a : Nat) (p1 : Int32) (E : Nat → Prop) (σ : OS) (Q : Int32 → OS → Prop) (X : Nat → OS → Prop) (hw : wp_X1_wetnessOf a p1 σ Q X) (h0 : AH) (n0 u0 : Nat) (hB : OB h0 n0 E σ) : CTX l yX1_wetnessOf (ws_ yX1_wetnessOf cX1_wetnessOf 2 (some .int)) 8 G [.ref a, .int p1] h0 n0 u0 σ.2.2.1 (10 * σ.2.2.1) (o_pi Q h0 n0 u0 E σ.2.2.1) (o_px X h0 E) := by
  refine CTX.intro [some (.ref a), some (.int p1)] pn_RX1 rfl (Nat.le_of_ble_eq_true rfl) ?_
  intro p e s m args below meth c C hz hu ht
  have hs : s.heap.size = n0 ∧ slT s.heap = u0 := ⟨hz, hu⟩
  refine a_world (V1 := OW h0 n0 u0 E σ.2.2.1 σ) (OW.start hB) ?_
  unfold wp_X1_wetnessOf at hw
  refine a_aload_0 (pc := 0) C dX1_wetnessOf_0 ?_
  refine a_iload_1 (pc := 1) C dX1_wetnessOf_1 ?_
  refine o_callXVv (pc := 2) C hs [.int p1] (b := a) (ci := 0) (st := []) (fun h n u hB => ct_X1_needLot l G a _ E _ _ _ hw.2 h n u hB) (by decide) (by decide) rfl hw.1 q65 q1307 q1309 qs25 (lw_meth q1310) sg_X1_needLot (Nat.le_of_ble_eq_true rfl) dX1_wetnessOf_2 (fun σ1 hw => ?_) (fun k9 σx hx => ?_)
  · refine a_aload_0 (pc := 5) C dX1_wetnessOf_5 ?_
    obtain ⟨r2, fr2, hw⟩ := hw
    refine a_getf (pc := 6) C (ref := "MaltDrums") in_X1 (ci := 0) rfl 0 (by decide) q299 rfl (fun h n u hV => o_fld fr2 hV) dX1_wetnessOf_6 ?_
    obtain ⟨w3, yw3, hw⟩ := hw
    refine a_getfN (pc := 9) C (ref := "MaltDrums$House") (v := .ref (r2 + 1 + 2)) in_X2 (ci := 1) rfl 2 (by decide) q162 rfl (fun h n u hV => o_hfld yw3 (fun _ => rfl) hV) dX1_wetnessOf_9 ?_
    refine a_iload_1 (pc := 12) C dX1_wetnessOf_12 ?_
    obtain ⟨w4, yw4, iw4, hw⟩ := hw
    refine o_hiald (pc := 13) C yw4 (by decide) iw4 dX1_wetnessOf_13 ?_
    exact a_xret (a_iret C dX1_wetnessOf_14 (fun h n u hV => ⟨⟨(_, _), rfl, hw, hV⟩, o_end hs hV⟩))
  · exact ax_out C (fun x hx => (ht x hx).elim) (fun h n u hV => ⟨⟨k9, σx, rfl, hx, hV.1.same rfl rfl rfl, hV.2.2.2.2.2.1⟩, o_end hs hV⟩)
def wp_X1_growthOf (a : Nat) (p1 : Int32) (σ : OS) (Q : Int32 → OS → Prop) (X : Nat → OS → Prop) : Prop := (oC σ a 0 ∧ wp_X1_needLot a p1 σ (fun σ1 => (∃ r2 : Nat, oF σ1 a 0 0 (.ref r2) ∧ (∃ w3 : MS × List Int32, σ1.2.1 r2 = some w3 ∧ (∃ w4 : MS × List Int32, σ1.2.1 r2 = some w4 ∧ vp_in p1 12 ∧ (Q (w4.1 3 p1.toNatClampNeg) σ1))))) X)
theorem sg_X1_growthOf : aSig yX1_growthOf 1 := by decide +kernel
set_option maxHeartbeats 4000000 in
theorem ct_X1_growthOf (l : Launch) (G : aG) (a : Nat) (p1 : Int32) (E : Nat → Prop) (σ : OS) (Q : Int32 → OS → Prop) (X : Nat → OS → Prop) (hw : wp_X1_growthOf a p1 σ Q X) (h0 : AH) (n0 u0 : Nat) (hB : OB h0 n0 E σ) : CTX l yX1_growthOf (ws_ yX1_growthOf cX1_growthOf 2 (some .int)) 8 G [.ref a, .int p1] h0 n0 u0 σ.2.2.1 (10 * σ.2.2.1) (o_pi Q h0 n0 u0 E σ.2.2.1) (o_px X h0 E) := by
  refine CTX.intro [some (.ref a), some (.int p1)] pn_RX1 rfl (Nat.le_of_ble_eq_true rfl) ?_
  intro p e s m args below meth c C hz hu ht
  have hs : s.heap.size = n0 ∧ slT s.heap = u0 := ⟨hz, hu⟩
  refine a_world (V1 := OW h0 n0 u0 E σ.2.2.1 σ) (OW.start hB) ?_
  unfold wp_X1_growthOf at hw
  refine a_aload_0 (pc := 0) C dX1_growthOf_0 ?_
  refine a_iload_1 (pc := 1) C dX1_growthOf_1 ?_
  refine o_callXVv (pc := 2) C hs [.int p1] (b := a) (ci := 0) (st := []) (fun h n u hB => ct_X1_needLot l G a _ E _ _ _ hw.2 h n u hB) (by decide) (by decide) rfl hw.1 q65 q1307 q1309 qs25 (lw_meth q1310) sg_X1_needLot (Nat.le_of_ble_eq_true rfl) dX1_growthOf_2 (fun σ1 hw => ?_) (fun k9 σx hx => ?_)
  · refine a_aload_0 (pc := 5) C dX1_growthOf_5 ?_
    obtain ⟨r2, fr2, hw⟩ := hw
    refine a_getf (pc := 6) C (ref := "MaltDrums") in_X1 (ci := 0) rfl 0 (by decide) q299 rfl (fun h n u hV => o_fld fr2 hV) dX1_growthOf_6 ?_
    obtain ⟨w3, yw3, hw⟩ := hw
    refine a_getfN (pc := 9) C (ref := "MaltDrums$House") (v := .ref (r2 + 1 + 3)) in_X2 (ci := 1) rfl 3 (by decide) q164 rfl (fun h n u hV => o_hfld yw3 (fun _ => rfl) hV) dX1_growthOf_9 ?_
    refine a_iload_1 (pc := 12) C dX1_growthOf_12 ?_
    obtain ⟨w4, yw4, iw4, hw⟩ := hw
    refine o_hiald (pc := 13) C yw4 (by decide) iw4 dX1_growthOf_13 ?_
    exact a_xret (a_iret C dX1_growthOf_14 (fun h n u hV => ⟨⟨(_, _), rfl, hw, hV⟩, o_end hs hV⟩))
  · exact ax_out C (fun x hx => (ht x hx).elim) (fun h n u hV => ⟨⟨k9, σx, rfl, hx, hV.1.same rfl rfl rfl, hV.2.2.2.2.2.1⟩, o_end hs hV⟩)
def wp_X1_heatOf (a : Nat) (p1 : Int32) (σ : OS) (Q : Int32 → OS → Prop) (X : Nat → OS → Prop) : Prop := (oC σ a 0 ∧ wp_X1_needLot a p1 σ (fun σ1 => (∃ r2 : Nat, oF σ1 a 0 0 (.ref r2) ∧ (∃ w3 : MS × List Int32, σ1.2.1 r2 = some w3 ∧ (∃ w4 : MS × List Int32, σ1.2.1 r2 = some w4 ∧ vp_in p1 12 ∧ (Q (w4.1 4 p1.toNatClampNeg) σ1))))) X)
theorem sg_X1_heatOf : aSig yX1_heatOf 1 := by decide +kernel
set_option maxHeartbeats 4000000 in
theorem ct_X1_heatOf (l : Launch) (G : aG) (a : Nat) (p1 : Int32) (E : Nat → Prop) (σ : OS) (Q : Int32 → OS → Prop) (X : Nat → OS → Prop) (hw : wp_X1_heatOf a p1 σ Q X) (h0 : AH) (n0 u0 : Nat) (hB : OB h0 n0 E σ) : CTX l yX1_heatOf (ws_ yX1_heatOf cX1_heatOf 2 (some .int)) 8 G [.ref a, .int p1] h0 n0 u0 σ.2.2.1 (10 * σ.2.2.1) (o_pi Q h0 n0 u0 E σ.2.2.1) (o_px X h0 E) := by
  refine CTX.intro [some (.ref a), some (.int p1)] pn_RX1 rfl (Nat.le_of_ble_eq_true rfl) ?_
  intro p e s m args below meth c C hz hu ht
  have hs : s.heap.size = n0 ∧ slT s.heap = u0 := ⟨hz, hu⟩
  refine a_world (V1 := OW h0 n0 u0 E σ.2.2.1 σ) (OW.start hB) ?_
  unfold wp_X1_heatOf at hw
  refine a_aload_0 (pc := 0) C dX1_heatOf_0 ?_
  refine a_iload_1 (pc := 1) C dX1_heatOf_1 ?_
  refine o_callXVv (pc := 2) C hs [.int p1] (b := a) (ci := 0) (st := []) (fun h n u hB => ct_X1_needLot l G a _ E _ _ _ hw.2 h n u hB) (by decide) (by decide) rfl hw.1 q65 q1307 q1309 qs25 (lw_meth q1310) sg_X1_needLot (Nat.le_of_ble_eq_true rfl) dX1_heatOf_2 (fun σ1 hw => ?_) (fun k9 σx hx => ?_)
  · refine a_aload_0 (pc := 5) C dX1_heatOf_5 ?_
    obtain ⟨r2, fr2, hw⟩ := hw
    refine a_getf (pc := 6) C (ref := "MaltDrums") in_X1 (ci := 0) rfl 0 (by decide) q299 rfl (fun h n u hV => o_fld fr2 hV) dX1_heatOf_6 ?_
    obtain ⟨w3, yw3, hw⟩ := hw
    refine a_getfN (pc := 9) C (ref := "MaltDrums$House") (v := .ref (r2 + 1 + 4)) in_X2 (ci := 1) rfl 4 (by decide) q166 rfl (fun h n u hV => o_hfld yw3 (fun _ => rfl) hV) dX1_heatOf_9 ?_
    refine a_iload_1 (pc := 12) C dX1_heatOf_12 ?_
    obtain ⟨w4, yw4, iw4, hw⟩ := hw
    refine o_hiald (pc := 13) C yw4 (by decide) iw4 dX1_heatOf_13 ?_
    exact a_xret (a_iret C dX1_heatOf_14 (fun h n u hV => ⟨⟨(_, _), rfl, hw, hV⟩, o_end hs hV⟩))
  · exact ax_out C (fun x hx => (ht x hx).elim) (fun h n u hV => ⟨⟨k9, σx, rfl, hx, hV.1.same rfl rfl rfl, hV.2.2.2.2.2.1⟩, o_end hs hV⟩)
def wp_X1_feltOf (a : Nat) (p1 : Int32) (σ : OS) (Q : Int32 → OS → Prop) (X : Nat → OS → Prop) : Prop := (oC σ a 0 ∧ wp_X1_needLot a p1 σ (fun σ1 => (∃ r2 : Nat, oF σ1 a 0 0 (.ref r2) ∧ (∃ w3 : MS × List Int32, σ1.2.1 r2 = some w3 ∧ (∃ w4 : MS × List Int32, σ1.2.1 r2 = some w4 ∧ vp_in p1 12 ∧ (Q (w4.1 5 p1.toNatClampNeg) σ1))))) X)
theorem sg_X1_feltOf : aSig yX1_feltOf 1 := by decide +kernel
set_option maxHeartbeats 4000000 in
theorem ct_X1_feltOf (l : Launch) (G : aG) (a : Nat) (p1 : Int32) (E : Nat → Prop) (σ : OS) (Q : Int32 → OS → Prop) (X : Nat → OS → Prop) (hw : wp_X1_feltOf a p1 σ Q X) (h0 : AH) (n0 u0 : Nat) (hB : OB h0 n0 E σ) : CTX l yX1_feltOf (ws_ yX1_feltOf cX1_feltOf 2 (some .int)) 8 G [.ref a, .int p1] h0 n0 u0 σ.2.2.1 (10 * σ.2.2.1) (o_pi Q h0 n0 u0 E σ.2.2.1) (o_px X h0 E) := by
  refine CTX.intro [some (.ref a), some (.int p1)] pn_RX1 rfl (Nat.le_of_ble_eq_true rfl) ?_
  intro p e s m args below meth c C hz hu ht
  have hs : s.heap.size = n0 ∧ slT s.heap = u0 := ⟨hz, hu⟩
  refine a_world (V1 := OW h0 n0 u0 E σ.2.2.1 σ) (OW.start hB) ?_
  unfold wp_X1_feltOf at hw
  refine a_aload_0 (pc := 0) C dX1_feltOf_0 ?_
  refine a_iload_1 (pc := 1) C dX1_feltOf_1 ?_
  refine o_callXVv (pc := 2) C hs [.int p1] (b := a) (ci := 0) (st := []) (fun h n u hB => ct_X1_needLot l G a _ E _ _ _ hw.2 h n u hB) (by decide) (by decide) rfl hw.1 q65 q1307 q1309 qs25 (lw_meth q1310) sg_X1_needLot (Nat.le_of_ble_eq_true rfl) dX1_feltOf_2 (fun σ1 hw => ?_) (fun k9 σx hx => ?_)
  · refine a_aload_0 (pc := 5) C dX1_feltOf_5 ?_
    obtain ⟨r2, fr2, hw⟩ := hw
    refine a_getf (pc := 6) C (ref := "MaltDrums") in_X1 (ci := 0) rfl 0 (by decide) q299 rfl (fun h n u hV => o_fld fr2 hV) dX1_feltOf_6 ?_
    obtain ⟨w3, yw3, hw⟩ := hw
    refine a_getfN (pc := 9) C (ref := "MaltDrums$House") (v := .ref (r2 + 1 + 5)) in_X2 (ci := 1) rfl 5 (by decide) q168 rfl (fun h n u hV => o_hfld yw3 (fun _ => rfl) hV) dX1_feltOf_9 ?_
    refine a_iload_1 (pc := 12) C dX1_feltOf_12 ?_
    obtain ⟨w4, yw4, iw4, hw⟩ := hw
    refine o_hiald (pc := 13) C yw4 (by decide) iw4 dX1_feltOf_13 ?_
    exact a_xret (a_iret C dX1_feltOf_14 (fun h n u hV => ⟨⟨(_, _), rfl, hw, hV⟩, o_end hs hV⟩))
  · exact ax_out C (fun x hx => (ht x hx).elim) (fun h n u hV => ⟨⟨k9, σx, rfl, hx, hV.1.same rfl rfl rfl, hV.2.2.2.2.2.1⟩, o_end hs hV⟩)
def wp_X1_isGlassy (a : Nat) (p1 : Int32) (σ : OS) (Q : Int32 → OS → Prop) (X : Nat → OS → Prop) : Prop := (oC σ a 0 ∧ wp_X1_needLot a p1 σ (fun σ1 => (∃ r2 : Nat, oF σ1 a 0 0 (.ref r2) ∧ (∃ w3 : MS × List Int32, σ1.2.1 r2 = some w3 ∧ (((¬ (((w3.1 11 0) >>> (p1 &&& 31)) &&& 1) = 1) → (Q 0 σ1)) ∧ (((((w3.1 11 0) >>> (p1 &&& 31)) &&& 1) = 1) → (Q 1 σ1)))))) X)
theorem sg_X1_isGlassy : aSig yX1_isGlassy 1 := by decide +kernel
set_option maxHeartbeats 4000000 in
theorem ct_X1_isGlassy (l : Launch) (G : aG) (a : Nat) (p1 : Int32) (E : Nat → Prop) (σ : OS) (Q : Int32 → OS → Prop) (X : Nat → OS → Prop) (hw : wp_X1_isGlassy a p1 σ Q X) (h0 : AH) (n0 u0 : Nat) (hB : OB h0 n0 E σ) : CTX l yX1_isGlassy (ws_ yX1_isGlassy cX1_isGlassy 2 (some .boolean)) 8 G [.ref a, .int p1] h0 n0 u0 σ.2.2.1 (10 * σ.2.2.1) (o_pi Q h0 n0 u0 E σ.2.2.1) (o_px X h0 E) := by
  refine CTX.intro [some (.ref a), some (.int p1)] pn_RX1 rfl (Nat.le_of_ble_eq_true rfl) ?_
  intro p e s m args below meth c C hz hu ht
  have hs : s.heap.size = n0 ∧ slT s.heap = u0 := ⟨hz, hu⟩
  refine a_world (V1 := OW h0 n0 u0 E σ.2.2.1 σ) (OW.start hB) ?_
  unfold wp_X1_isGlassy at hw
  refine a_aload_0 (pc := 0) C dX1_isGlassy_0 ?_
  refine a_iload_1 (pc := 1) C dX1_isGlassy_1 ?_
  refine o_callXVv (pc := 2) C hs [.int p1] (b := a) (ci := 0) (st := []) (fun h n u hB => ct_X1_needLot l G a _ E _ _ _ hw.2 h n u hB) (by decide) (by decide) rfl hw.1 q65 q1307 q1309 qs25 (lw_meth q1310) sg_X1_needLot (Nat.le_of_ble_eq_true rfl) dX1_isGlassy_2 (fun σ1 hw => ?_) (fun k9 σx hx => ?_)
  · refine a_aload_0 (pc := 5) C dX1_isGlassy_5 ?_
    obtain ⟨r2, fr2, hw⟩ := hw
    refine a_getf (pc := 6) C (ref := "MaltDrums") in_X1 (ci := 0) rfl 0 (by decide) q299 rfl (fun h n u hV => o_fld fr2 hV) dX1_isGlassy_6 ?_
    obtain ⟨w3, yw3, hw⟩ := hw
    refine a_getfN (pc := 9) C (ref := "MaltDrums$House") (v := .int (w3.1 11 0)) in_X2 (ci := 1) rfl 10 (by decide) q177 rfl (fun h n u hV => o_hfld yw3 (fun _ => rfl) hV) dX1_isGlassy_9 ?_
    refine a_iload_1 (pc := 12) C dX1_isGlassy_12 ?_
    refine a_ishr (pc := 13) C dX1_isGlassy_13 ?_
    refine a_iconst (pc := 14) C dX1_isGlassy_14 ic_1 ?_
    refine a_iand (pc := 15) C dX1_isGlassy_15 ?_
    refine a_iconst (pc := 16) C dX1_isGlassy_16 ic_1 ?_
    refine a_icmp_ne (pc := 17) C 24 dX1_isGlassy_17 (by decide) (fun c4 => ?_) (fun c4 => ?_)
    · have hw := hw.1 c4
      refine a_iconst (pc := 24) C dX1_isGlassy_24 ic_0 ?_
      exact a_xret (a_zret rfl C dX1_isGlassy_25 (fun h n u hV => ⟨⟨(_, _), rfl, hw, hV⟩, o_end hs hV⟩))
    · have hw := hw.2 c4
      refine a_iconst (pc := 20) C dX1_isGlassy_20 ic_1 ?_
      refine a_goto (pc := 21) C 25 dX1_isGlassy_21 (by decide) ?_
      exact a_xret (a_zret rfl C dX1_isGlassy_25 (fun h n u hV => ⟨⟨(_, _), rfl, hw, hV⟩, o_end hs hV⟩))
  · exact ax_out C (fun x hx => (ht x hx).elim) (fun h n u hV => ⟨⟨k9, σx, rfl, hx, hV.1.same rfl rfl rfl, hV.2.2.2.2.2.1⟩, o_end hs hV⟩)
def wp_X1_paceOf (a : Nat) (p1 : Int32) (σ : OS) (Q : Int32 → OS → Prop) (X : Nat → OS → Prop) : Prop := (oC σ a 0 ∧ wp_X1_needLot a p1 σ (fun σ1 => (∃ r2 : Nat, oF σ1 a 0 0 (.ref r2) ∧ (∃ w3 : MS × List Int32, σ1.2.1 r2 = some w3 ∧ wp_X2_pace p1 (w3.1, w3.2, σ1.2.2.1) (fun v6 s4 => ∀ σ5 : OS, σ5 = oHc σ1 r2 s4 → (Q v6 σ5))))) X)
theorem sg_X1_paceOf : aSig yX1_paceOf 1 := by decide +kernel
set_option maxHeartbeats 4000000 in
theorem ct_X1_paceOf (l : Launch) (G : aG) (a : Nat) (p1 : Int32) (E : Nat → Prop) (σ : OS) (Q : Int32 → OS → Prop) (X : Nat → OS → Prop) (hw : wp_X1_paceOf a p1 σ Q X) (h0 : AH) (n0 u0 : Nat) (hB : OB h0 n0 E σ) : CTX l yX1_paceOf (ws_ yX1_paceOf cX1_paceOf 2 (some .int)) 8 G [.ref a, .int p1] h0 n0 u0 σ.2.2.1 (10 * σ.2.2.1) (o_pi Q h0 n0 u0 E σ.2.2.1) (o_px X h0 E) := by
  refine CTX.intro [some (.ref a), some (.int p1)] pn_RX1 rfl (Nat.le_of_ble_eq_true rfl) ?_
  intro p e s m args below meth c C hz hu ht
  have hs : s.heap.size = n0 ∧ slT s.heap = u0 := ⟨hz, hu⟩
  refine a_world (V1 := OW h0 n0 u0 E σ.2.2.1 σ) (OW.start hB) ?_
  unfold wp_X1_paceOf at hw
  refine a_aload_0 (pc := 0) C dX1_paceOf_0 ?_
  refine a_iload_1 (pc := 1) C dX1_paceOf_1 ?_
  refine o_callXVv (pc := 2) C hs [.int p1] (b := a) (ci := 0) (st := []) (fun h n u hB => ct_X1_needLot l G a _ E _ _ _ hw.2 h n u hB) (by decide) (by decide) rfl hw.1 q65 q1307 q1309 qs25 (lw_meth q1310) sg_X1_needLot (Nat.le_of_ble_eq_true rfl) dX1_paceOf_2 (fun σ1 hw => ?_) (fun k9 σx hx => ?_)
  · refine a_aload_0 (pc := 5) C dX1_paceOf_5 ?_
    obtain ⟨r2, fr2, hw⟩ := hw
    refine a_getf (pc := 6) C (ref := "MaltDrums") in_X1 (ci := 0) rfl 0 (by decide) q299 rfl (fun h n u hV => o_fld fr2 hV) dX1_paceOf_6 ?_
    refine a_iload_1 (pc := 9) C dX1_paceOf_9 ?_
    obtain ⟨w3, yw3, hw⟩ := hw
    refine o_callHi (pc := 10) C hs [.int p1] (st := []) yw3 (fun h n u hV => ct_X2_pace l G _ _ _ _ hw h n u hV) (by decide) (by decide) q66 q1654 q1053 q1054 (lw_meth q1055) sg_X2_pace (Nat.le_of_ble_eq_true rfl) dX1_paceOf_10 (fun v6 s4 hw => o_top (fun σ5 eσ5 => ?_))
    have hw := hw σ5 eσ5
    exact a_xret (a_iret C dX1_paceOf_13 (fun h n u hV => ⟨⟨(_, _), rfl, hw, hV⟩, o_end hs hV⟩))
  · exact ax_out C (fun x hx => (ht x hx).elim) (fun h n u hV => ⟨⟨k9, σx, rfl, hx, hV.1.same rfl rfl rfl, hV.2.2.2.2.2.1⟩, o_end hs hV⟩)
def wp_X1_lotsIn (a : Nat) (p1 : Int32) (σ : OS) (Q : Int32 → OS → Prop) (X : Nat → OS → Prop) : Prop := (wp_X1_isWithin p1 0 6 (fun v1 => wp_X1_needArgument v1 σ (fun σ2 => (∃ r3 : Nat, oF σ2 a 0 0 (.ref r3) ∧ (∃ w4 : MS × List Int32, σ2.2.1 r3 = some w4 ∧ wp_X2_set p1 (w4.1, w4.2, σ2.2.2.1) (fun v7 s5 => ∀ σ6 : OS, σ6 = oHc σ2 r3 s5 → (Q v7 σ6))))) X))
theorem sg_X1_lotsIn : aSig yX1_lotsIn 1 := by decide +kernel
set_option maxHeartbeats 4000000 in
theorem ct_X1_lotsIn (l : Launch) (G : aG) (a : Nat) (p1 : Int32) (E : Nat → Prop) (σ : OS) (Q : Int32 → OS → Prop) (X : Nat → OS → Prop) (hw : wp_X1_lotsIn a p1 σ Q X) (h0 : AH) (n0 u0 : Nat) (hB : OB h0 n0 E σ) : CTX l yX1_lotsIn (ws_ yX1_lotsIn cX1_lotsIn 2 (some .int)) 7 G [.ref a, .int p1] h0 n0 u0 σ.2.2.1 (10 * σ.2.2.1) (o_pi Q h0 n0 u0 E σ.2.2.1) (o_px X h0 E) := by
  refine CTX.intro [some (.ref a), some (.int p1)] pn_RX1 rfl (Nat.le_of_ble_eq_true rfl) ?_
  intro p e s m args below meth c C hz hu ht
  have hs : s.heap.size = n0 ∧ slT s.heap = u0 := ⟨hz, hu⟩
  refine a_world (V1 := OW h0 n0 u0 E σ.2.2.1 σ) (OW.start hB) ?_
  unfold wp_X1_lotsIn at hw
  refine a_iload_1 (pc := 0) C dX1_lotsIn_0 ?_
  refine a_iconst (pc := 1) C dX1_lotsIn_1 ic_0 ?_
  refine a_bipush (pc := 2) C dX1_lotsIn_2 bc_6 ?_
  refine o_callSp (pc := 4) C hs [.int p1, .int 0, .int 6] (st := []) (fun h n u => ct_X1_isWithin l G _ _ _ _ hw h n u) (by decide) (by decide) (lw_S q1230 q856 q65 q857) sg_X1_isWithin (Nat.le_of_ble_eq_true rfl) dX1_lotsIn_4 (fun v1 hw => ?_)
  refine o_callXSv (pc := 7) C hs [.int v1] (st := []) (fun h n u hB => ct_X1_needArgument l G _ E _ _ _ hw h n u hB) (by decide) (by decide) (lw_S q1231 q1232 q65 q1233) sg_X1_needArgument (Nat.le_of_ble_eq_true rfl) dX1_lotsIn_7 (fun σ2 hw => ?_) (fun k9 σx hx => ?_)
  · refine a_aload_0 (pc := 10) C dX1_lotsIn_10 ?_
    obtain ⟨r3, fr3, hw⟩ := hw
    refine a_getf (pc := 11) C (ref := "MaltDrums") in_X1 (ci := 0) rfl 0 (by decide) q299 rfl (fun h n u hV => o_fld fr3 hV) dX1_lotsIn_11 ?_
    refine a_iload_1 (pc := 14) C dX1_lotsIn_14 ?_
    obtain ⟨w4, yw4, hw⟩ := hw
    refine o_callHi (pc := 15) C hs [.int p1] (st := []) yw4 (fun h n u hV => ct_X2_set l G _ _ _ _ hw h n u hV) (by decide) (by decide) q66 q1009 q1010 q1011 (lw_meth q1012) sg_X2_set (Nat.le_of_ble_eq_true rfl) dX1_lotsIn_15 (fun v7 s5 hw => o_top (fun σ6 eσ6 => ?_))
    have hw := hw σ6 eσ6
    exact a_xret (a_iret C dX1_lotsIn_18 (fun h n u hV => ⟨⟨(_, _), rfl, hw, hV⟩, o_end hs hV⟩))
  · exact ax_out C (fun x hx => (ht x hx).elim) (fun h n u hV => ⟨⟨k9, σx, rfl, hx, hV.1.same rfl rfl rfl, hV.2.2.2.2.2.1⟩, o_end hs hV⟩)
def wp_X1_isRiper (a : Nat) (p1 : Int32) (p2 : Int32) (σ : OS) (Q : Int32 → OS → Prop) : Prop := (∃ r1 : Nat, oF σ a 0 0 (.ref r1) ∧ (∃ w2 : MS × List Int32, σ.2.1 r1 = some w2 ∧ (∃ w3 : MS × List Int32, σ.2.1 r1 = some w3 ∧ vp_in p1 12 ∧ (∃ r4 : Nat, oF σ a 0 0 (.ref r4) ∧ (∃ w5 : MS × List Int32, σ.2.1 r4 = some w5 ∧ (∃ w6 : MS × List Int32, σ.2.1 r4 = some w6 ∧ vp_in p2 12 ∧ (∀ x7 : Int32, x7 = (w3.1 3 p1.toNatClampNeg) - (w6.1 3 p2.toNatClampNeg) → (jn (fun (x10 : Int32) => (((0 < x10) → (Q 1 σ)) ∧ ((¬ 0 < x10) → (((¬ x10 = 0) → (Q 0 σ)) ∧ ((x10 = 0) → (((p2 ≤ p1) → (Q 0 σ)) ∧ ((¬ p2 ≤ p1) → (Q 1 σ)))))))) (fun kj9 => (((x7 = 0) → (∃ r14 : Nat, oF σ a 0 0 (.ref r14) ∧ (∃ w15 : MS × List Int32, σ.2.1 r14 = some w15 ∧ (∃ w16 : MS × List Int32, σ.2.1 r14 = some w16 ∧ vp_in p1 12 ∧ (∃ r17 : Nat, oF σ a 0 0 (.ref r17) ∧ (∃ w18 : MS × List Int32, σ.2.1 r17 = some w18 ∧ (∃ w19 : MS × List Int32, σ.2.1 r17 = some w19 ∧ vp_in p2 12 ∧ (kj9 ((w16.1 4 p1.toNatClampNeg) - (w19.1 4 p2.toNatClampNeg)))))))))) ∧ ((¬ x7 = 0) → (kj9 x7))))))))))))
theorem sg_X1_isRiper : aSig yX1_isRiper 2 := by decide +kernel
set_option maxHeartbeats 4000000 in
theorem ct_X1_isRiper (l : Launch) (G : aG) (a : Nat) (p1 : Int32) (p2 : Int32) (E : Nat → Prop) (σ : OS) (Q : Int32 → OS → Prop) (hw : wp_X1_isRiper a p1 p2 σ Q) (h0 : AH) (n0 u0 : Nat) (hB : OB h0 n0 E σ) : CT l yX1_isRiper (ws_ yX1_isRiper cX1_isRiper 4 (some .boolean)) 1 G [.ref a, .int p1, .int p2] h0 n0 u0 σ.2.2.1 (10 * σ.2.2.1) (o_pi Q h0 n0 u0 E σ.2.2.1) := by
  refine CT.intro [some (.ref a), some (.int p1), some (.int p2), none] pn_RX1 rfl (Nat.le_of_ble_eq_true rfl) ?_
  intro p e s m args below meth c C hz hu
  have hs : s.heap.size = n0 ∧ slT s.heap = u0 := ⟨hz, hu⟩
  refine a_world (V1 := OW h0 n0 u0 E σ.2.2.1 σ) (OW.start hB) ?_
  unfold wp_X1_isRiper at hw
  refine a_aload_0 (pc := 0) C dX1_isRiper_0 ?_
  obtain ⟨r1, fr1, hw⟩ := hw
  refine a_getf (pc := 1) C (ref := "MaltDrums") in_X1 (ci := 0) rfl 0 (by decide) q299 rfl (fun h n u hV => o_fld fr1 hV) dX1_isRiper_1 ?_
  obtain ⟨w2, yw2, hw⟩ := hw
  refine a_getfN (pc := 4) C (ref := "MaltDrums$House") (v := .ref (r1 + 1 + 3)) in_X2 (ci := 1) rfl 3 (by decide) q164 rfl (fun h n u hV => o_hfld yw2 (fun _ => rfl) hV) dX1_isRiper_4 ?_
  refine a_iload_1 (pc := 7) C dX1_isRiper_7 ?_
  obtain ⟨w3, yw3, iw3, hw⟩ := hw
  refine o_hiald (pc := 8) C yw3 (by decide) iw3 dX1_isRiper_8 ?_
  refine a_aload_0 (pc := 9) C dX1_isRiper_9 ?_
  obtain ⟨r4, fr4, hw⟩ := hw
  refine a_getf (pc := 10) C (ref := "MaltDrums") in_X1 (ci := 0) rfl 0 (by decide) q299 rfl (fun h n u hV => o_fld fr4 hV) dX1_isRiper_10 ?_
  obtain ⟨w5, yw5, hw⟩ := hw
  refine a_getfN (pc := 13) C (ref := "MaltDrums$House") (v := .ref (r4 + 1 + 3)) in_X2 (ci := 1) rfl 3 (by decide) q164 rfl (fun h n u hV => o_hfld yw5 (fun _ => rfl) hV) dX1_isRiper_13 ?_
  refine a_iload_2 (pc := 16) C dX1_isRiper_16 ?_
  obtain ⟨w6, yw6, iw6, hw⟩ := hw
  refine o_hiald (pc := 17) C yw6 (by decide) iw6 dX1_isRiper_17 ?_
  refine a_isub (pc := 18) C dX1_isRiper_18 ?_
  refine a_topi (fun x7 ex7 => ?_)
  have hw := hw x7 ex7
  refine a_istore_3 (pc := 19) C dX1_isRiper_19 (by decide) rfl ?_
  refine a_iload_3 (pc := 20) C dX1_isRiper_20 ?_
  refine jn_use hw (fun kj9 ekj9 hw => ?_)
  have hkj9 : ∀ (x10 : Int32), kj9 x10 → AW G p l e (aRm 1 σ.2.2.1 (10 * σ.2.2.1)) s m args below meth c (a_A h0 n0) 4 (MQ below (a_Qc G (o_pi Q h0 n0 u0 E σ.2.2.1) (a_A h0 n0)) args s σ.2.2.1 (10 * σ.2.2.1) (a_A h0 n0)) (OW h0 n0 u0 E σ.2.2.1 σ) 47 [some (.ref a), some (.int p1), some (.int p2), some (.int x7)] [.int x10] := by
    intro x10 hw
    rw [ekj9] at hw
    refine a_istore_3 (pc := 47) C dX1_isRiper_47 (by decide) rfl ?_
    refine a_iload_3 (pc := 48) C dX1_isRiper_48 ?_
    refine a_if_gt (pc := 49) C 61 dX1_isRiper_49 (by decide) (fun c11 => ?_) (fun c11 => ?_)
    · have hw := hw.1 c11
      refine a_iconst (pc := 61) C dX1_isRiper_61 ic_1 ?_
      refine a_goto (pc := 62) C 66 dX1_isRiper_62 (by decide) ?_
      exact a_zret rfl C dX1_isRiper_66 (fun h n u hV => ⟨⟨(_, _), rfl, hw, hV⟩, o_end hs hV⟩)
    · have hw := hw.2 c11
      refine a_iload_3 (pc := 52) C dX1_isRiper_52 ?_
      refine a_if_ne (pc := 53) C 65 dX1_isRiper_53 (by decide) (fun c12 => ?_) (fun c12 => ?_)
      · have hw := hw.1 c12
        refine a_iconst (pc := 65) C dX1_isRiper_65 ic_0 ?_
        exact a_zret rfl C dX1_isRiper_66 (fun h n u hV => ⟨⟨(_, _), rfl, hw, hV⟩, o_end hs hV⟩)
      · have hw := hw.2 c12
        refine a_iload_1 (pc := 56) C dX1_isRiper_56 ?_
        refine a_iload_2 (pc := 57) C dX1_isRiper_57 ?_
        refine a_icmp_ge (pc := 58) C 65 dX1_isRiper_58 (by decide) (fun c13 => ?_) (fun c13 => ?_)
        · have hw := hw.1 c13
          refine a_iconst (pc := 65) C dX1_isRiper_65 ic_0 ?_
          exact a_zret rfl C dX1_isRiper_66 (fun h n u hV => ⟨⟨(_, _), rfl, hw, hV⟩, o_end hs hV⟩)
        · have hw := hw.2 c13
          refine a_iconst (pc := 61) C dX1_isRiper_61 ic_1 ?_
          refine a_goto (pc := 62) C 66 dX1_isRiper_62 (by decide) ?_
          exact a_zret rfl C dX1_isRiper_66 (fun h n u hV => ⟨⟨(_, _), rfl, hw, hV⟩, o_end hs hV⟩)
  refine a_if_eq (pc := 21) C 28 dX1_isRiper_21 (by decide) (fun c8 => ?_) (fun c8 => ?_)
  · have hw := hw.1 c8
    refine a_aload_0 (pc := 28) C dX1_isRiper_28 ?_
    obtain ⟨r14, fr14, hw⟩ := hw
    refine a_getf (pc := 29) C (ref := "MaltDrums") in_X1 (ci := 0) rfl 0 (by decide) q299 rfl (fun h n u hV => o_fld fr14 hV) dX1_isRiper_29 ?_
    obtain ⟨w15, yw15, hw⟩ := hw
    refine a_getfN (pc := 32) C (ref := "MaltDrums$House") (v := .ref (r14 + 1 + 4)) in_X2 (ci := 1) rfl 4 (by decide) q166 rfl (fun h n u hV => o_hfld yw15 (fun _ => rfl) hV) dX1_isRiper_32 ?_
    refine a_iload_1 (pc := 35) C dX1_isRiper_35 ?_
    obtain ⟨w16, yw16, iw16, hw⟩ := hw
    refine o_hiald (pc := 36) C yw16 (by decide) iw16 dX1_isRiper_36 ?_
    refine a_aload_0 (pc := 37) C dX1_isRiper_37 ?_
    obtain ⟨r17, fr17, hw⟩ := hw
    refine a_getf (pc := 38) C (ref := "MaltDrums") in_X1 (ci := 0) rfl 0 (by decide) q299 rfl (fun h n u hV => o_fld fr17 hV) dX1_isRiper_38 ?_
    obtain ⟨w18, yw18, hw⟩ := hw
    refine a_getfN (pc := 41) C (ref := "MaltDrums$House") (v := .ref (r17 + 1 + 4)) in_X2 (ci := 1) rfl 4 (by decide) q166 rfl (fun h n u hV => o_hfld yw18 (fun _ => rfl) hV) dX1_isRiper_41 ?_
    refine a_iload_2 (pc := 44) C dX1_isRiper_44 ?_
    obtain ⟨w19, yw19, iw19, hw⟩ := hw
    refine o_hiald (pc := 45) C yw19 (by decide) iw19 dX1_isRiper_45 ?_
    refine a_isub (pc := 46) C dX1_isRiper_46 ?_
    exact hkj9 _ hw
  · have hw := hw.2 c8
    refine a_iload_3 (pc := 24) C dX1_isRiper_24 ?_
    refine a_goto (pc := 25) C 47 dX1_isRiper_25 (by decide) ?_
    exact hkj9 _ hw
def wp_X1_ripest_L33 (kx18 : Int32 → Int32 → OS → Prop) (a : Nat) (x6 : Int32) : Nat → Int32 → Int32 → OS → Prop
  | 0, _, _, _ => False
  | F + 1, x15, x16, σ17 => (∃ r31 : Nat, oF σ17 a 0 0 (.ref r31) ∧ (∃ w32 : MS × List Int32, σ17.2.1 r31 = some w32 ∧ ((((w32.1 11 1) ≤ x16) → (kx18 x15 x16 σ17)) ∧ ((¬ (w32.1 11 1) ≤ x16) → (∃ r34 : Nat, oF σ17 a 0 0 (.ref r34) ∧ (∃ w35 : MS × List Int32, σ17.2.1 r34 = some w35 ∧ wp_X2_isGrowing x16 (w35.1, w35.2, σ17.2.2.1) (fun v38 s36 => ∀ σ37 : OS, σ37 = oHc σ17 r34 s36 → (jn (fun (x41 : Int32) (σ42 : OS) => (wp_X1_ripest_L33 kx18 a x6 F (x15 + x41) (x16 + 1) σ42)) (fun kj40 => (((v38 = 0) → (kj40 0 σ37)) ∧ ((¬ v38 = 0) → (oC σ37 a 0 ∧ wp_X1_isRiper a x16 x6 σ37 (fun v44 σ43 => (((v44 = 0) → (kj40 0 σ43)) ∧ ((¬ v44 = 0) → (kj40 1 σ43))))))))))))))))
def wp_X1_ripest_L16 (kx8 : Int32 → Int32 → OS → Prop) (a : Nat) (p1 : Int32) : Nat → Int32 → Int32 → OS → Prop
  | 0, _, _, _ => False
  | F + 1, x5, x6, σ7 => (∃ r12 : Nat, oF σ7 a 0 0 (.ref r12) ∧ (∃ w13 : MS × List Int32, σ7.2.1 r12 = some w13 ∧ ((((w13.1 11 1) ≤ x6) → (kx8 x5 x6 σ7)) ∧ ((¬ (w13.1 11 1) ≤ x6) → (jn (fun (x19 : Int32) (x20 : Int32) (σ21 : OS) => (∃ r22 : Nat, oF σ21 a 0 0 (.ref r22) ∧ (∃ w23 : MS × List Int32, σ21.2.1 r22 = some w23 ∧ wp_X2_isGrowing x6 (w23.1, w23.2, σ21.2.2.1) (fun v26 s24 => ∀ σ25 : OS, σ25 = oHc σ21 r22 s24 → (jn (fun (x29 : Int32) => (wp_X1_ripest_L16 kx8 a p1 F x29 (x6 + 1) σ25)) (fun kj28 => (((v26 = 0) → (kj28 x5)) ∧ ((¬ v26 = 0) → (((¬ x19 = p1) → (kj28 x5)) ∧ ((x19 = p1) → (kj28 x6))))))))))) (fun kx18 => wp_X1_ripest_L33 kx18 a x6 mF 0 0 σ7))))))
def wp_X1_ripest (a : Nat) (p1 : Int32) (σ : OS) (Q : Int32 → OS → Prop) (X : Nat → OS → Prop) : Prop := (jn (fun (x3 : Int32) => wp_X1_needArgument x3 σ (fun σ4 => (jn (fun (x9 : Int32) (x10 : Int32) (σ11 : OS) => (Q x9 σ11)) (fun kx8 => wp_X1_ripest_L16 kx8 a p1 mF ((-1)) 0 σ4))) X) (fun kj2 => (((p1 < 0) → (kj2 0)) ∧ ((¬ p1 < 0) → (kj2 1)))))
theorem sg_X1_ripest : aSig yX1_ripest 1 := by decide +kernel
set_option maxHeartbeats 4000000 in
theorem ct_X1_ripest (l : Launch) (G : aG) (a : Nat) (p1 : Int32) (E : Nat → Prop) (σ : OS) (Q : Int32 → OS → Prop) (X : Nat → OS → Prop) (hw : wp_X1_ripest a p1 σ Q X) (h0 : AH) (n0 u0 : Nat) (hB : OB h0 n0 E σ) : CTX l yX1_ripest (ws_ yX1_ripest cX1_ripest 6 (some .int)) 7 G [.ref a, .int p1] h0 n0 u0 σ.2.2.1 (10 * σ.2.2.1) (o_pi Q h0 n0 u0 E σ.2.2.1) (o_px X h0 E) := by
  refine CTX.intro [some (.ref a), some (.int p1), none, none, none, none] pn_RX1 rfl (Nat.le_of_ble_eq_true rfl) ?_
  intro p e s m args below meth c C hz hu ht
  have hs : s.heap.size = n0 ∧ slT s.heap = u0 := ⟨hz, hu⟩
  refine a_world (V1 := OW h0 n0 u0 E σ.2.2.1 σ) (OW.start hB) ?_
  unfold wp_X1_ripest at hw
  refine a_iload_1 (pc := 0) C dX1_ripest_0 ?_
  refine jn_use hw (fun kj2 ekj2 hw => ?_)
  have hkj2 : ∀ (x3 : Int32), kj2 x3 → AW G p l e (aRm 7 σ.2.2.1 (10 * σ.2.2.1)) s m args below meth c (a_A h0 n0) 6 (vx_MQ below (a_Qc G (o_pi Q h0 n0 u0 E σ.2.2.1) (a_A h0 n0)) (a_XC G (o_px X h0 E) (a_A h0 n0)) args s σ.2.2.1 (10 * σ.2.2.1) (a_A h0 n0)) (OW h0 n0 u0 E σ.2.2.1 σ) 9 [some (.ref a), some (.int p1), none, none, none, none] [.int x3] := by
    intro x3 hw
    rw [ekj2] at hw
    refine o_callXSv (pc := 9) C hs [.int x3] (st := []) (fun h n u hB => ct_X1_needArgument l G _ E _ _ _ hw h n u hB) (by decide) (by decide) (lw_S q1231 q1232 q65 q1233) sg_X1_needArgument (Nat.le_of_ble_eq_true rfl) dX1_ripest_9 (fun σ4 hw => ?_) (fun k9 σx hx => ?_)
    · refine a_iconst (pc := 12) C dX1_ripest_12 ic_m1 ?_
      refine a_istore_2 (pc := 13) C dX1_ripest_13 (by decide) rfl ?_
      refine a_iconst (pc := 14) C dX1_ripest_14 ic_0 ?_
      refine a_istore_3 (pc := 15) C dX1_ripest_15 (by decide) rfl ?_
      refine jn_use hw (fun kx8 ekx8 hw => ?_)
      have hkx8 : ∀ (x9 : Int32) (x10 : Int32) (σ11 : OS), kx8 x9 x10 σ11 → AW G p l e (aRm 7 σ.2.2.1 (10 * σ.2.2.1)) s m args below meth c (a_A h0 n0) 6 (vx_MQ below (a_Qc G (o_pi Q h0 n0 u0 E σ.2.2.1) (a_A h0 n0)) (a_XC G (o_px X h0 E) (a_A h0 n0)) args s σ.2.2.1 (10 * σ.2.2.1) (a_A h0 n0)) (OW h0 n0 u0 E σ.2.2.1 σ11) 112 [some (.ref a), some (.int p1), some (.int x9), some (.int x10), none, none] [] := by
        intro x9 x10 σ11 hw
        rw [ekx8] at hw
        refine a_iload_2 (pc := 112) C dX1_ripest_112 ?_
        exact a_xret (a_iret C dX1_ripest_113 (fun h n u hV => ⟨⟨(_, _), rfl, hw, hV⟩, o_end hs hV⟩))
      have lp16 : ∀ (F : Nat) (x5 : Int32) (x6 : Int32) (σ7 : OS), wp_X1_ripest_L16 kx8 a p1 F x5 x6 σ7 → AW G p l e (aRm 7 σ.2.2.1 (10 * σ.2.2.1)) s m args below meth c (a_A h0 n0) 6 (vx_MQ below (a_Qc G (o_pi Q h0 n0 u0 E σ.2.2.1) (a_A h0 n0)) (a_XC G (o_px X h0 E) (a_A h0 n0)) args s σ.2.2.1 (10 * σ.2.2.1) (a_A h0 n0)) (OW h0 n0 u0 E σ.2.2.1 σ7) 16 [some (.ref a), some (.int p1), some (.int x5), some (.int x6), none, none] [] := by
        intro F
        induction F with
        | zero => intro x5 x6 σ7 hw; exact False.elim hw
        | succ F ih =>
          intro x5 x6 σ7 hw
          rw [wp_X1_ripest_L16] at hw
          refine a_iload_3 (pc := 16) C dX1_ripest_16 ?_
          refine a_aload_0 (pc := 17) C dX1_ripest_17 ?_
          obtain ⟨r12, fr12, hw⟩ := hw
          refine a_getf (pc := 18) C (ref := "MaltDrums") in_X1 (ci := 0) rfl 0 (by decide) q299 rfl (fun h n u hV => o_fld fr12 hV) dX1_ripest_18 ?_
          obtain ⟨w13, yw13, hw⟩ := hw
          refine a_getfN (pc := 21) C (ref := "MaltDrums$House") (v := .int (w13.1 11 1)) in_X2 (ci := 1) rfl 11 (by decide) q179 rfl (fun h n u hV => o_hfld yw13 (fun _ => rfl) hV) dX1_ripest_21 ?_
          refine a_icmp_ge (pc := 24) C 112 dX1_ripest_24 (by decide) (fun c14 => ?_) (fun c14 => ?_)
          · have hw := hw.1 c14
            exact hkx8 _ _ _ hw
          · have hw := hw.2 c14
            refine a_iconst (pc := 27) C dX1_ripest_27 ic_0 ?_
            refine a_istore_4 (pc := 28) C dX1_ripest_28 (by decide) rfl ?_
            refine a_iconst (pc := 30) C dX1_ripest_30 ic_0 ?_
            refine a_istore_5 (pc := 31) C dX1_ripest_31 (by decide) rfl ?_
            refine jn_use hw (fun kx18 ekx18 hw => ?_)
            have hkx18 : ∀ (x19 : Int32) (x20 : Int32) (σ21 : OS), kx18 x19 x20 σ21 → AW G p l e (aRm 7 σ.2.2.1 (10 * σ.2.2.1)) s m args below meth c (a_A h0 n0) 6 (vx_MQ below (a_Qc G (o_pi Q h0 n0 u0 E σ.2.2.1) (a_A h0 n0)) (a_XC G (o_px X h0 E) (a_A h0 n0)) args s σ.2.2.1 (10 * σ.2.2.1) (a_A h0 n0)) (OW h0 n0 u0 E σ.2.2.1 σ21) 83 [some (.ref a), some (.int p1), some (.int x5), some (.int x6), some (.int x19), some (.int x20)] [] := by
              intro x19 x20 σ21 hw
              rw [ekx18] at hw
              refine a_aload_0 (pc := 83) C dX1_ripest_83 ?_
              obtain ⟨r22, fr22, hw⟩ := hw
              refine a_getf (pc := 84) C (ref := "MaltDrums") in_X1 (ci := 0) rfl 0 (by decide) q299 rfl (fun h n u hV => o_fld fr22 hV) dX1_ripest_84 ?_
              refine a_iload_3 (pc := 87) C dX1_ripest_87 ?_
              obtain ⟨w23, yw23, hw⟩ := hw
              refine o_callHi (pc := 88) C hs [.int x6] (st := []) yw23 (fun h n u hV => ct_X2_isGrowing l G _ _ _ _ hw h n u hV) (by decide) (by decide) q66 q1220 q1057 q1058 (lw_meth q1059) sg_X2_isGrowing (Nat.le_of_ble_eq_true rfl) dX1_ripest_88 (fun v26 s24 hw => o_top (fun σ25 eσ25 => ?_))
              have hw := hw σ25 eσ25
              refine jn_use hw (fun kj28 ekj28 hw => ?_)
              have hkj28 : ∀ (x29 : Int32), kj28 x29 → AW G p l e (aRm 7 σ.2.2.1 (10 * σ.2.2.1)) s m args below meth c (a_A h0 n0) 6 (vx_MQ below (a_Qc G (o_pi Q h0 n0 u0 E σ.2.2.1) (a_A h0 n0)) (a_XC G (o_px X h0 E) (a_A h0 n0)) args s σ.2.2.1 (10 * σ.2.2.1) (a_A h0 n0)) (OW h0 n0 u0 E σ.2.2.1 σ25) 105 [some (.ref a), some (.int p1), some (.int x5), some (.int x6), some (.int x19), some (.int x20)] [.int x29] := by
                intro x29 hw
                rw [ekj28] at hw
                refine a_istore_2 (pc := 105) C dX1_ripest_105 (by decide) rfl ?_
                refine a_iinc_3 (pc := 106) (v := 1) C dX1_ripest_106 (by decide) (by decide) rfl ?_
                refine a_goto (pc := 109) C 16 dX1_ripest_109 (by decide) ?_
                exact a_weak (a_le_some (a_le_some (a_le_some (a_le_some (a_le_none (a_le_none a_le_nil)))))) (ih _ _ _ hw)
              refine a_if_eq (pc := 91) C 104 dX1_ripest_91 (by decide) (fun c27 => ?_) (fun c27 => ?_)
              · have hw := hw.1 c27
                refine a_iload_2 (pc := 104) C dX1_ripest_104 ?_
                exact hkj28 _ hw
              · have hw := hw.2 c27
                refine a_iload_4 (pc := 94) C dX1_ripest_94 ?_
                refine a_iload_1 (pc := 96) C dX1_ripest_96 ?_
                refine a_icmp_ne (pc := 97) C 104 dX1_ripest_97 (by decide) (fun c30 => ?_) (fun c30 => ?_)
                · have hw := hw.1 c30
                  refine a_iload_2 (pc := 104) C dX1_ripest_104 ?_
                  exact hkj28 _ hw
                · have hw := hw.2 c30
                  refine a_iload_3 (pc := 100) C dX1_ripest_100 ?_
                  refine a_goto (pc := 101) C 105 dX1_ripest_101 (by decide) ?_
                  exact hkj28 _ hw
            have lp33 : ∀ (F : Nat) (x15 : Int32) (x16 : Int32) (σ17 : OS), wp_X1_ripest_L33 kx18 a x6 F x15 x16 σ17 → AW G p l e (aRm 7 σ.2.2.1 (10 * σ.2.2.1)) s m args below meth c (a_A h0 n0) 6 (vx_MQ below (a_Qc G (o_pi Q h0 n0 u0 E σ.2.2.1) (a_A h0 n0)) (a_XC G (o_px X h0 E) (a_A h0 n0)) args s σ.2.2.1 (10 * σ.2.2.1) (a_A h0 n0)) (OW h0 n0 u0 E σ.2.2.1 σ17) 33 [some (.ref a), some (.int p1), some (.int x5), some (.int x6), some (.int x15), some (.int x16)] [] := by
              intro F
              induction F with
              | zero => intro x15 x16 σ17 hw; exact False.elim hw
              | succ F ih =>
                intro x15 x16 σ17 hw
                rw [wp_X1_ripest_L33] at hw
                refine a_iload_5 (pc := 33) C dX1_ripest_33 ?_
                refine a_aload_0 (pc := 35) C dX1_ripest_35 ?_
                obtain ⟨r31, fr31, hw⟩ := hw
                refine a_getf (pc := 36) C (ref := "MaltDrums") in_X1 (ci := 0) rfl 0 (by decide) q299 rfl (fun h n u hV => o_fld fr31 hV) dX1_ripest_36 ?_
                obtain ⟨w32, yw32, hw⟩ := hw
                refine a_getfN (pc := 39) C (ref := "MaltDrums$House") (v := .int (w32.1 11 1)) in_X2 (ci := 1) rfl 11 (by decide) q179 rfl (fun h n u hV => o_hfld yw32 (fun _ => rfl) hV) dX1_ripest_39 ?_
                refine a_icmp_ge (pc := 42) C 83 dX1_ripest_42 (by decide) (fun c33 => ?_) (fun c33 => ?_)
                · have hw := hw.1 c33
                  exact hkx18 _ _ _ hw
                · have hw := hw.2 c33
                  refine a_iload_4 (pc := 45) C dX1_ripest_45 ?_
                  refine a_aload_0 (pc := 47) C dX1_ripest_47 ?_
                  obtain ⟨r34, fr34, hw⟩ := hw
                  refine a_getf (pc := 48) C (ref := "MaltDrums") in_X1 (ci := 0) rfl 0 (by decide) q299 rfl (fun h n u hV => o_fld fr34 hV) dX1_ripest_48 ?_
                  refine a_iload_5 (pc := 51) C dX1_ripest_51 ?_
                  obtain ⟨w35, yw35, hw⟩ := hw
                  refine o_callHi (pc := 53) C hs [.int x16] (st := [.int x15]) yw35 (fun h n u hV => ct_X2_isGrowing l G _ _ _ _ hw h n u hV) (by decide) (by decide) q66 q1220 q1057 q1058 (lw_meth q1059) sg_X2_isGrowing (Nat.le_of_ble_eq_true rfl) dX1_ripest_53 (fun v38 s36 hw => o_top (fun σ37 eσ37 => ?_))
                  have hw := hw σ37 eσ37
                  refine jn_use hw (fun kj40 ekj40 hw => ?_)
                  have hkj40 : ∀ (x41 : Int32) (σ42 : OS), kj40 x41 σ42 → AW G p l e (aRm 7 σ.2.2.1 (10 * σ.2.2.1)) s m args below meth c (a_A h0 n0) 6 (vx_MQ below (a_Qc G (o_pi Q h0 n0 u0 E σ.2.2.1) (a_A h0 n0)) (a_XC G (o_px X h0 E) (a_A h0 n0)) args s σ.2.2.1 (10 * σ.2.2.1) (a_A h0 n0)) (OW h0 n0 u0 E σ.2.2.1 σ42) 74 [some (.ref a), some (.int p1), some (.int x5), some (.int x6), some (.int x15), some (.int x16)] [.int x41, .int x15] := by
                    intro x41 σ42 hw
                    rw [ekj40] at hw
                    refine a_iadd (pc := 74) C dX1_ripest_74 ?_
                    refine a_istore_4 (pc := 75) C dX1_ripest_75 (by decide) rfl ?_
                    refine a_iinc_5 (pc := 77) (v := 1) C dX1_ripest_77 (by decide) (by decide) rfl ?_
                    refine a_goto (pc := 80) C 33 dX1_ripest_80 (by decide) ?_
                    exact ih _ _ _ hw
                  refine a_if_eq (pc := 56) C 73 dX1_ripest_56 (by decide) (fun c39 => ?_) (fun c39 => ?_)
                  · have hw := hw.1 c39
                    refine a_iconst (pc := 73) C dX1_ripest_73 ic_0 ?_
                    exact hkj40 _ _ hw
                  · have hw := hw.2 c39
                    refine a_aload_0 (pc := 59) C dX1_ripest_59 ?_
                    refine a_iload_5 (pc := 60) C dX1_ripest_60 ?_
                    refine a_iload_3 (pc := 62) C dX1_ripest_62 ?_
                    refine o_callVi (pc := 63) C hs [.int x16, .int x6] (b := a) (ci := 0) (st := [.int x15]) (fun h n u hB => ct_X1_isRiper l G a _ _ E _ _ hw.2 h n u hB) (by decide) (by decide) rfl hw.1 q65 q1669 q1671 qs28 (lw_meth q1672) sg_X1_isRiper (Nat.le_of_ble_eq_true rfl) dX1_ripest_63 (fun v44 σ43 hw => ?_)
                    refine a_if_eq (pc := 66) C 73 dX1_ripest_66 (by decide) (fun c45 => ?_) (fun c45 => ?_)
                    · have hw := hw.1 c45
                      refine a_iconst (pc := 73) C dX1_ripest_73 ic_0 ?_
                      exact hkj40 _ _ hw
                    · have hw := hw.2 c45
                      refine a_iconst (pc := 69) C dX1_ripest_69 ic_1 ?_
                      refine a_goto (pc := 70) C 74 dX1_ripest_70 (by decide) ?_
                      exact hkj40 _ _ hw
            exact lp33 mF _ _ _ hw
      exact lp16 mF _ _ _ hw
    · exact ax_out C (fun x hx => (ht x hx).elim) (fun h n u hV => ⟨⟨k9, σx, rfl, hx, hV.1.same rfl rfl rfl, hV.2.2.2.2.2.1⟩, o_end hs hV⟩)
  refine a_if_lt (pc := 1) C 8 dX1_ripest_1 (by decide) (fun c1 => ?_) (fun c1 => ?_)
  · have hw := hw.1 c1
    refine a_iconst (pc := 8) C dX1_ripest_8 ic_0 ?_
    exact hkj2 _ hw
  · have hw := hw.2 c1
    refine a_iconst (pc := 4) C dX1_ripest_4 ic_1 ?_
    refine a_goto (pc := 5) C 9 dX1_ripest_5 (by decide) ?_
    exact hkj2 _ hw
def wp_X1_lotIn (a : Nat) (p1 : Int32) (σ : OS) (Q : Int32 → OS → Prop) (X : Nat → OS → Prop) : Prop := (wp_X1_isDrum p1 (fun v1 => wp_X1_needThere v1 σ (fun σ2 => (∃ r3 : Nat, oF σ2 a 0 0 (.ref r3) ∧ (∃ w4 : MS × List Int32, σ2.2.1 r3 = some w4 ∧ (∃ w5 : MS × List Int32, σ2.2.1 r3 = some w5 ∧ vp_in p1 4 ∧ (∃ w6 : MS × List Int32, σ2.2.1 r3 = some w6 ∧ (p1.toNatClampNeg) < 4 ∧ (Q (w6.1 7 (p1.toNatClampNeg)) σ2)))))) X))
theorem sg_X1_lotIn : aSig yX1_lotIn 1 := by decide +kernel
set_option maxHeartbeats 4000000 in
theorem ct_X1_lotIn (l : Launch) (G : aG) (a : Nat) (p1 : Int32) (E : Nat → Prop) (σ : OS) (Q : Int32 → OS → Prop) (X : Nat → OS → Prop) (hw : wp_X1_lotIn a p1 σ Q X) (h0 : AH) (n0 u0 : Nat) (hB : OB h0 n0 E σ) : CTX l yX1_lotIn (ws_ yX1_lotIn cX1_lotIn 2 (some .int)) 7 G [.ref a, .int p1] h0 n0 u0 σ.2.2.1 (10 * σ.2.2.1) (o_pi Q h0 n0 u0 E σ.2.2.1) (o_px X h0 E) := by
  refine CTX.intro [some (.ref a), some (.int p1)] pn_RX1 rfl (Nat.le_of_ble_eq_true rfl) ?_
  intro p e s m args below meth c C hz hu ht
  have hs : s.heap.size = n0 ∧ slT s.heap = u0 := ⟨hz, hu⟩
  refine a_world (V1 := OW h0 n0 u0 E σ.2.2.1 σ) (OW.start hB) ?_
  unfold wp_X1_lotIn at hw
  refine a_iload_1 (pc := 0) C dX1_lotIn_0 ?_
  refine o_callSp (pc := 1) C hs [.int p1] (st := []) (fun h n u => ct_X1_isDrum l G _ _ hw h n u) (by decide) (by decide) (lw_S q1348 q1349 q65 q1350) sg_X1_isDrum (Nat.le_of_ble_eq_true rfl) dX1_lotIn_1 (fun v1 hw => ?_)
  refine o_callXSv (pc := 4) C hs [.int v1] (st := []) (fun h n u hB => ct_X1_needThere l G _ E _ _ _ hw h n u hB) (by decide) (by decide) (lw_S q1315 q1316 q65 q1317) sg_X1_needThere (Nat.le_of_ble_eq_true rfl) dX1_lotIn_4 (fun σ2 hw => ?_) (fun k9 σx hx => ?_)
  · refine a_aload_0 (pc := 7) C dX1_lotIn_7 ?_
    obtain ⟨r3, fr3, hw⟩ := hw
    refine a_getf (pc := 8) C (ref := "MaltDrums") in_X1 (ci := 0) rfl 0 (by decide) q299 rfl (fun h n u hV => o_fld fr3 hV) dX1_lotIn_8 ?_
    obtain ⟨w4, yw4, hw⟩ := hw
    refine a_getfN (pc := 11) C (ref := "MaltDrums$House") (v := .ref (r3 + 8)) in_X2 (ci := 1) rfl 7 (by decide) q172 rfl (fun h n u hV => o_hfld yw4 (fun _ => rfl) hV) dX1_lotIn_11 ?_
    refine a_iload_1 (pc := 14) C dX1_lotIn_14 ?_
    obtain ⟨w5, yw5, iw5, hw⟩ := hw
    refine o_haald (pc := 15) C yw5 iw5 dX1_lotIn_15 ?_
    obtain ⟨w6, yw6, dw6, hw⟩ := hw
    refine a_getfN (pc := 16) C (ref := "MaltDrums$Drum") (v := .int (w6.1 7 (p1.toNatClampNeg))) in_X5 (ci := 3) rfl 0 (by decide) q141 rfl (fun h n u hV => o_hdr yw6 dw6 rfl hV) dX1_lotIn_16 ?_
    exact a_xret (a_iret C dX1_lotIn_19 (fun h n u hV => ⟨⟨(_, _), rfl, hw, hV⟩, o_end hs hV⟩))
  · exact ax_out C (fun x hx => (ht x hx).elim) (fun h n u hV => ⟨⟨k9, σx, rfl, hx, hV.1.same rfl rfl rfl, hV.2.2.2.2.2.1⟩, o_end hs hV⟩)
def wp_X1_settingsOf (a : Nat) (p1 : Int32) (σ : OS) (Q : Int32 → OS → Prop) (X : Nat → OS → Prop) : Prop := (wp_X1_isDrum p1 (fun v1 => wp_X1_needThere v1 σ (fun σ2 => (∃ r3 : Nat, oF σ2 a 0 0 (.ref r3) ∧ (∃ w4 : MS × List Int32, σ2.2.1 r3 = some w4 ∧ (∃ w5 : MS × List Int32, σ2.2.1 r3 = some w5 ∧ vp_in p1 4 ∧ (∃ w6 : MS × List Int32, σ2.2.1 r3 = some w6 ∧ (p1.toNatClampNeg) < 4 ∧ (∃ w7 : MS × List Int32, σ2.2.1 r3 = some w7 ∧ (p1.toNatClampNeg) < 4 ∧ (∃ w8 : MS × List Int32, σ2.2.1 r3 = some w8 ∧ (p1.toNatClampNeg) < 4 ∧ (Q (((100 * (w6.1 8 (p1.toNatClampNeg))) + (10 * (w7.1 9 (p1.toNatClampNeg)))) + (w8.1 10 (p1.toNatClampNeg))) σ2)))))))) X))
theorem sg_X1_settingsOf : aSig yX1_settingsOf 1 := by decide +kernel
set_option maxHeartbeats 4000000 in
theorem ct_X1_settingsOf (l : Launch) (G : aG) (a : Nat) (p1 : Int32) (E : Nat → Prop) (σ : OS) (Q : Int32 → OS → Prop) (X : Nat → OS → Prop) (hw : wp_X1_settingsOf a p1 σ Q X) (h0 : AH) (n0 u0 : Nat) (hB : OB h0 n0 E σ) : CTX l yX1_settingsOf (ws_ yX1_settingsOf cX1_settingsOf 3 (some .int)) 7 G [.ref a, .int p1] h0 n0 u0 σ.2.2.1 (10 * σ.2.2.1) (o_pi Q h0 n0 u0 E σ.2.2.1) (o_px X h0 E) := by
  refine CTX.intro [some (.ref a), some (.int p1), none] pn_RX1 rfl (Nat.le_of_ble_eq_true rfl) ?_
  intro p e s m args below meth c C hz hu ht
  have hs : s.heap.size = n0 ∧ slT s.heap = u0 := ⟨hz, hu⟩
  refine a_world (V1 := OW h0 n0 u0 E σ.2.2.1 σ) (OW.start hB) ?_
  unfold wp_X1_settingsOf at hw
  refine a_iload_1 (pc := 0) C dX1_settingsOf_0 ?_
  refine o_callSp (pc := 1) C hs [.int p1] (st := []) (fun h n u => ct_X1_isDrum l G _ _ hw h n u) (by decide) (by decide) (lw_S q1348 q1349 q65 q1350) sg_X1_isDrum (Nat.le_of_ble_eq_true rfl) dX1_settingsOf_1 (fun v1 hw => ?_)
  refine o_callXSv (pc := 4) C hs [.int v1] (st := []) (fun h n u hB => ct_X1_needThere l G _ E _ _ _ hw h n u hB) (by decide) (by decide) (lw_S q1315 q1316 q65 q1317) sg_X1_needThere (Nat.le_of_ble_eq_true rfl) dX1_settingsOf_4 (fun σ2 hw => ?_) (fun k9 σx hx => ?_)
  · refine a_aload_0 (pc := 7) C dX1_settingsOf_7 ?_
    obtain ⟨r3, fr3, hw⟩ := hw
    refine a_getf (pc := 8) C (ref := "MaltDrums") in_X1 (ci := 0) rfl 0 (by decide) q299 rfl (fun h n u hV => o_fld fr3 hV) dX1_settingsOf_8 ?_
    obtain ⟨w4, yw4, hw⟩ := hw
    refine a_getfN (pc := 11) C (ref := "MaltDrums$House") (v := .ref (r3 + 8)) in_X2 (ci := 1) rfl 7 (by decide) q172 rfl (fun h n u hV => o_hfld yw4 (fun _ => rfl) hV) dX1_settingsOf_11 ?_
    refine a_iload_1 (pc := 14) C dX1_settingsOf_14 ?_
    obtain ⟨w5, yw5, iw5, hw⟩ := hw
    refine o_haald (pc := 15) C yw5 iw5 dX1_settingsOf_15 ?_
    refine a_astore_2 (pc := 16) C dX1_settingsOf_16 (by decide) rfl ?_
    refine a_bipush (pc := 17) C dX1_settingsOf_17 bc_100 ?_
    refine a_aload_2 (pc := 19) C dX1_settingsOf_19 ?_
    obtain ⟨w6, yw6, dw6, hw⟩ := hw
    refine a_getfN (pc := 20) C (ref := "MaltDrums$Drum") (v := .int (w6.1 8 (p1.toNatClampNeg))) in_X5 (ci := 3) rfl 1 (by decide) q143 rfl (fun h n u hV => o_hdr yw6 dw6 rfl hV) dX1_settingsOf_20 ?_
    refine a_imul (pc := 23) C dX1_settingsOf_23 ?_
    refine a_bipush (pc := 24) C dX1_settingsOf_24 bc_10 ?_
    refine a_aload_2 (pc := 26) C dX1_settingsOf_26 ?_
    obtain ⟨w7, yw7, dw7, hw⟩ := hw
    refine a_getfN (pc := 27) C (ref := "MaltDrums$Drum") (v := .int (w7.1 9 (p1.toNatClampNeg))) in_X5 (ci := 3) rfl 2 (by decide) q145 rfl (fun h n u hV => o_hdr yw7 dw7 rfl hV) dX1_settingsOf_27 ?_
    refine a_imul (pc := 30) C dX1_settingsOf_30 ?_
    refine a_iadd (pc := 31) C dX1_settingsOf_31 ?_
    refine a_aload_2 (pc := 32) C dX1_settingsOf_32 ?_
    obtain ⟨w8, yw8, dw8, hw⟩ := hw
    refine a_getfN (pc := 33) C (ref := "MaltDrums$Drum") (v := .int (w8.1 10 (p1.toNatClampNeg))) in_X5 (ci := 3) rfl 3 (by decide) q147 rfl (fun h n u hV => o_hdr yw8 dw8 rfl hV) dX1_settingsOf_33 ?_
    refine a_iadd (pc := 36) C dX1_settingsOf_36 ?_
    exact a_xret (a_iret C dX1_settingsOf_37 (fun h n u hV => ⟨⟨(_, _), rfl, hw, hV⟩, o_end hs hV⟩))
  · exact ax_out C (fun x hx => (ht x hx).elim) (fun h n u hV => ⟨⟨k9, σx, rfl, hx, hV.1.same rfl rfl rfl, hV.2.2.2.2.2.1⟩, o_end hs hV⟩)
def wp_X1_whyNotSteep (a : Nat) (p1 : Int32) (σ : OS) (Q : Int32 → OS → Prop) (X : Nat → OS → Prop) : Prop := (oC σ a 0 ∧ wp_X1_needLot a p1 σ (fun σ1 => (∃ r2 : Nat, oF σ1 a 0 0 (.ref r2) ∧ (∃ w3 : MS × List Int32, σ1.2.1 r2 = some w3 ∧ wp_X2_whyNotSteep p1 (w3.1, w3.2, σ1.2.2.1) (fun v6 s4 => ∀ σ5 : OS, σ5 = oHc σ1 r2 s4 → (Q v6 σ5))))) X)
theorem sg_X1_whyNotSteep : aSig yX1_whyNotSteep 1 := by decide +kernel
set_option maxHeartbeats 4000000 in
theorem ct_X1_whyNotSteep (l : Launch) (G : aG) (a : Nat) (p1 : Int32) (E : Nat → Prop) (σ : OS) (Q : Int32 → OS → Prop) (X : Nat → OS → Prop) (hw : wp_X1_whyNotSteep a p1 σ Q X) (h0 : AH) (n0 u0 : Nat) (hB : OB h0 n0 E σ) : CTX l yX1_whyNotSteep (ws_ yX1_whyNotSteep cX1_whyNotSteep 2 (some .int)) 8 G [.ref a, .int p1] h0 n0 u0 σ.2.2.1 (10 * σ.2.2.1) (o_pi Q h0 n0 u0 E σ.2.2.1) (o_px X h0 E) := by
  refine CTX.intro [some (.ref a), some (.int p1)] pn_RX1 rfl (Nat.le_of_ble_eq_true rfl) ?_
  intro p e s m args below meth c C hz hu ht
  have hs : s.heap.size = n0 ∧ slT s.heap = u0 := ⟨hz, hu⟩
  refine a_world (V1 := OW h0 n0 u0 E σ.2.2.1 σ) (OW.start hB) ?_
  unfold wp_X1_whyNotSteep at hw
  refine a_aload_0 (pc := 0) C dX1_whyNotSteep_0 ?_
  refine a_iload_1 (pc := 1) C dX1_whyNotSteep_1 ?_
  refine o_callXVv (pc := 2) C hs [.int p1] (b := a) (ci := 0) (st := []) (fun h n u hB => ct_X1_needLot l G a _ E _ _ _ hw.2 h n u hB) (by decide) (by decide) rfl hw.1 q65 q1307 q1309 qs25 (lw_meth q1310) sg_X1_needLot (Nat.le_of_ble_eq_true rfl) dX1_whyNotSteep_2 (fun σ1 hw => ?_) (fun k9 σx hx => ?_)
  · refine a_aload_0 (pc := 5) C dX1_whyNotSteep_5 ?_
    obtain ⟨r2, fr2, hw⟩ := hw
    refine a_getf (pc := 6) C (ref := "MaltDrums") in_X1 (ci := 0) rfl 0 (by decide) q299 rfl (fun h n u hV => o_fld fr2 hV) dX1_whyNotSteep_6 ?_
    refine a_iload_1 (pc := 9) C dX1_whyNotSteep_9 ?_
    obtain ⟨w3, yw3, hw⟩ := hw
    refine o_callHi (pc := 10) C hs [.int p1] (st := []) yw3 (fun h n u hV => ct_X2_whyNotSteep l G _ _ _ _ hw h n u hV) (by decide) (by decide) q66 q1331 q1332 q1333 (lw_meth q1334) sg_X2_whyNotSteep (Nat.le_of_ble_eq_true rfl) dX1_whyNotSteep_10 (fun v6 s4 hw => o_top (fun σ5 eσ5 => ?_))
    have hw := hw σ5 eσ5
    exact a_xret (a_iret C dX1_whyNotSteep_13 (fun h n u hV => ⟨⟨(_, _), rfl, hw, hV⟩, o_end hs hV⟩))
  · exact ax_out C (fun x hx => (ht x hx).elim) (fun h n u hV => ⟨⟨k9, σx, rfl, hx, hV.1.same rfl rfl rfl, hV.2.2.2.2.2.1⟩, o_end hs hV⟩)
def wp_X1_whyNotDrum (a : Nat) (p1 : Int32) (p2 : Int32) (σ : OS) (Q : Int32 → OS → Prop) (X : Nat → OS → Prop) : Prop := (oC σ a 0 ∧ wp_X1_needLot a p1 σ (fun σ1 => (wp_X1_isDrum p2 (fun v2 => wp_X1_needThere v2 σ1 (fun σ3 => (∃ r4 : Nat, oF σ3 a 0 0 (.ref r4) ∧ (∃ w5 : MS × List Int32, σ3.2.1 r4 = some w5 ∧ wp_X2_whyNotDrum p1 p2 (w5.1, w5.2, σ3.2.2.1) (fun v8 s6 => ∀ σ7 : OS, σ7 = oHc σ3 r4 s6 → (Q v8 σ7))))) X))) X)
theorem sg_X1_whyNotDrum : aSig yX1_whyNotDrum 2 := by decide +kernel
set_option maxHeartbeats 4000000 in
theorem ct_X1_whyNotDrum (l : Launch) (G : aG) (a : Nat) (p1 : Int32) (p2 : Int32) (E : Nat → Prop) (σ : OS) (Q : Int32 → OS → Prop) (X : Nat → OS → Prop) (hw : wp_X1_whyNotDrum a p1 p2 σ Q X) (h0 : AH) (n0 u0 : Nat) (hB : OB h0 n0 E σ) : CTX l yX1_whyNotDrum (ws_ yX1_whyNotDrum cX1_whyNotDrum 3 (some .int)) 8 G [.ref a, .int p1, .int p2] h0 n0 u0 σ.2.2.1 (10 * σ.2.2.1) (o_pi Q h0 n0 u0 E σ.2.2.1) (o_px X h0 E) := by
  refine CTX.intro [some (.ref a), some (.int p1), some (.int p2)] pn_RX1 rfl (Nat.le_of_ble_eq_true rfl) ?_
  intro p e s m args below meth c C hz hu ht
  have hs : s.heap.size = n0 ∧ slT s.heap = u0 := ⟨hz, hu⟩
  refine a_world (V1 := OW h0 n0 u0 E σ.2.2.1 σ) (OW.start hB) ?_
  unfold wp_X1_whyNotDrum at hw
  refine a_aload_0 (pc := 0) C dX1_whyNotDrum_0 ?_
  refine a_iload_1 (pc := 1) C dX1_whyNotDrum_1 ?_
  refine o_callXVv (pc := 2) C hs [.int p1] (b := a) (ci := 0) (st := []) (fun h n u hB => ct_X1_needLot l G a _ E _ _ _ hw.2 h n u hB) (by decide) (by decide) rfl hw.1 q65 q1307 q1309 qs25 (lw_meth q1310) sg_X1_needLot (Nat.le_of_ble_eq_true rfl) dX1_whyNotDrum_2 (fun σ1 hw => ?_) (fun k9 σx hx => ?_)
  · refine a_iload_2 (pc := 5) C dX1_whyNotDrum_5 ?_
    refine o_callSp (pc := 6) C hs [.int p2] (st := []) (fun h n u => ct_X1_isDrum l G _ _ hw h n u) (by decide) (by decide) (lw_S q1348 q1349 q65 q1350) sg_X1_isDrum (Nat.le_of_ble_eq_true rfl) dX1_whyNotDrum_6 (fun v2 hw => ?_)
    refine o_callXSv (pc := 9) C hs [.int v2] (st := []) (fun h n u hB => ct_X1_needThere l G _ E _ _ _ hw h n u hB) (by decide) (by decide) (lw_S q1315 q1316 q65 q1317) sg_X1_needThere (Nat.le_of_ble_eq_true rfl) dX1_whyNotDrum_9 (fun σ3 hw => ?_) (fun k9 σx hx => ?_)
    · refine a_aload_0 (pc := 12) C dX1_whyNotDrum_12 ?_
      obtain ⟨r4, fr4, hw⟩ := hw
      refine a_getf (pc := 13) C (ref := "MaltDrums") in_X1 (ci := 0) rfl 0 (by decide) q299 rfl (fun h n u hV => o_fld fr4 hV) dX1_whyNotDrum_13 ?_
      refine a_iload_1 (pc := 16) C dX1_whyNotDrum_16 ?_
      refine a_iload_2 (pc := 17) C dX1_whyNotDrum_17 ?_
      obtain ⟨w5, yw5, hw⟩ := hw
      refine o_callHi (pc := 18) C hs [.int p1, .int p2] (st := []) yw5 (fun h n u hV => ct_X2_whyNotDrum l G _ _ _ _ _ hw h n u hV) (by decide) (by decide) q66 q1351 q1352 q1353 (lw_meth q1354) sg_X2_whyNotDrum (Nat.le_of_ble_eq_true rfl) dX1_whyNotDrum_18 (fun v8 s6 hw => o_top (fun σ7 eσ7 => ?_))
      have hw := hw σ7 eσ7
      exact a_xret (a_iret C dX1_whyNotDrum_21 (fun h n u hV => ⟨⟨(_, _), rfl, hw, hV⟩, o_end hs hV⟩))
    · exact ax_out C (fun x hx => (ht x hx).elim) (fun h n u hV => ⟨⟨k9, σx, rfl, hx, hV.1.same rfl rfl rfl, hV.2.2.2.2.2.1⟩, o_end hs hV⟩)
  · exact ax_out C (fun x hx => (ht x hx).elim) (fun h n u hV => ⟨⟨k9, σx, rfl, hx, hV.1.same rfl rfl rfl, hV.2.2.2.2.2.1⟩, o_end hs hV⟩)
def wp_X1_whyNotLoad (a : Nat) (p1 : Int32) (σ : OS) (Q : Int32 → OS → Prop) (X : Nat → OS → Prop) : Prop := (oC σ a 0 ∧ wp_X1_needLot a p1 σ (fun σ1 => (∃ r2 : Nat, oF σ1 a 0 0 (.ref r2) ∧ (∃ w3 : MS × List Int32, σ1.2.1 r2 = some w3 ∧ wp_X2_whyNotLoad p1 (w3.1, w3.2, σ1.2.2.1) (fun v6 s4 => ∀ σ5 : OS, σ5 = oHc σ1 r2 s4 → (Q v6 σ5))))) X)
theorem sg_X1_whyNotLoad : aSig yX1_whyNotLoad 1 := by decide +kernel
set_option maxHeartbeats 4000000 in
theorem ct_X1_whyNotLoad (l : Launch) (G : aG) (a : Nat) (p1 : Int32) (E : Nat → Prop) (σ : OS) (Q : Int32 → OS → Prop) (X : Nat → OS → Prop) (hw : wp_X1_whyNotLoad a p1 σ Q X) (h0 : AH) (n0 u0 : Nat) (hB : OB h0 n0 E σ) : CTX l yX1_whyNotLoad (ws_ yX1_whyNotLoad cX1_whyNotLoad 2 (some .int)) 8 G [.ref a, .int p1] h0 n0 u0 σ.2.2.1 (10 * σ.2.2.1) (o_pi Q h0 n0 u0 E σ.2.2.1) (o_px X h0 E) := by
  refine CTX.intro [some (.ref a), some (.int p1)] pn_RX1 rfl (Nat.le_of_ble_eq_true rfl) ?_
  intro p e s m args below meth c C hz hu ht
  have hs : s.heap.size = n0 ∧ slT s.heap = u0 := ⟨hz, hu⟩
  refine a_world (V1 := OW h0 n0 u0 E σ.2.2.1 σ) (OW.start hB) ?_
  unfold wp_X1_whyNotLoad at hw
  refine a_aload_0 (pc := 0) C dX1_whyNotLoad_0 ?_
  refine a_iload_1 (pc := 1) C dX1_whyNotLoad_1 ?_
  refine o_callXVv (pc := 2) C hs [.int p1] (b := a) (ci := 0) (st := []) (fun h n u hB => ct_X1_needLot l G a _ E _ _ _ hw.2 h n u hB) (by decide) (by decide) rfl hw.1 q65 q1307 q1309 qs25 (lw_meth q1310) sg_X1_needLot (Nat.le_of_ble_eq_true rfl) dX1_whyNotLoad_2 (fun σ1 hw => ?_) (fun k9 σx hx => ?_)
  · refine a_aload_0 (pc := 5) C dX1_whyNotLoad_5 ?_
    obtain ⟨r2, fr2, hw⟩ := hw
    refine a_getf (pc := 6) C (ref := "MaltDrums") in_X1 (ci := 0) rfl 0 (by decide) q299 rfl (fun h n u hV => o_fld fr2 hV) dX1_whyNotLoad_6 ?_
    refine a_iload_1 (pc := 9) C dX1_whyNotLoad_9 ?_
    obtain ⟨w3, yw3, hw⟩ := hw
    refine o_callHi (pc := 10) C hs [.int p1] (st := []) yw3 (fun h n u hV => ct_X2_whyNotLoad l G _ _ _ _ hw h n u hV) (by decide) (by decide) q66 q1381 q1382 q1383 (lw_meth q1384) sg_X2_whyNotLoad (Nat.le_of_ble_eq_true rfl) dX1_whyNotLoad_10 (fun v6 s4 hw => o_top (fun σ5 eσ5 => ?_))
    have hw := hw σ5 eσ5
    exact a_xret (a_iret C dX1_whyNotLoad_13 (fun h n u hV => ⟨⟨(_, _), rfl, hw, hV⟩, o_end hs hV⟩))
  · exact ax_out C (fun x hx => (ht x hx).elim) (fun h n u hV => ⟨⟨k9, σx, rfl, hx, hV.1.same rfl rfl rfl, hV.2.2.2.2.2.1⟩, o_end hs hV⟩)
def wp_X1_whyNotSpray (a : Nat) (p1 : Int32) (σ : OS) (Q : Int32 → OS → Prop) (X : Nat → OS → Prop) : Prop := (oC σ a 0 ∧ wp_X1_needLot a p1 σ (fun σ1 => (∃ r2 : Nat, oF σ1 a 0 0 (.ref r2) ∧ (∃ w3 : MS × List Int32, σ1.2.1 r2 = some w3 ∧ wp_X2_whyNotSpray p1 (w3.1, w3.2, σ1.2.2.1) (fun v6 s4 => ∀ σ5 : OS, σ5 = oHc σ1 r2 s4 → (Q v6 σ5))))) X)
theorem sg_X1_whyNotSpray : aSig yX1_whyNotSpray 1 := by decide +kernel
set_option maxHeartbeats 4000000 in
theorem ct_X1_whyNotSpray (l : Launch) (G : aG) (a : Nat) (p1 : Int32) (E : Nat → Prop) (σ : OS) (Q : Int32 → OS → Prop) (X : Nat → OS → Prop) (hw : wp_X1_whyNotSpray a p1 σ Q X) (h0 : AH) (n0 u0 : Nat) (hB : OB h0 n0 E σ) : CTX l yX1_whyNotSpray (ws_ yX1_whyNotSpray cX1_whyNotSpray 2 (some .int)) 8 G [.ref a, .int p1] h0 n0 u0 σ.2.2.1 (10 * σ.2.2.1) (o_pi Q h0 n0 u0 E σ.2.2.1) (o_px X h0 E) := by
  refine CTX.intro [some (.ref a), some (.int p1)] pn_RX1 rfl (Nat.le_of_ble_eq_true rfl) ?_
  intro p e s m args below meth c C hz hu ht
  have hs : s.heap.size = n0 ∧ slT s.heap = u0 := ⟨hz, hu⟩
  refine a_world (V1 := OW h0 n0 u0 E σ.2.2.1 σ) (OW.start hB) ?_
  unfold wp_X1_whyNotSpray at hw
  refine a_aload_0 (pc := 0) C dX1_whyNotSpray_0 ?_
  refine a_iload_1 (pc := 1) C dX1_whyNotSpray_1 ?_
  refine o_callXVv (pc := 2) C hs [.int p1] (b := a) (ci := 0) (st := []) (fun h n u hB => ct_X1_needLot l G a _ E _ _ _ hw.2 h n u hB) (by decide) (by decide) rfl hw.1 q65 q1307 q1309 qs25 (lw_meth q1310) sg_X1_needLot (Nat.le_of_ble_eq_true rfl) dX1_whyNotSpray_2 (fun σ1 hw => ?_) (fun k9 σx hx => ?_)
  · refine a_aload_0 (pc := 5) C dX1_whyNotSpray_5 ?_
    obtain ⟨r2, fr2, hw⟩ := hw
    refine a_getf (pc := 6) C (ref := "MaltDrums") in_X1 (ci := 0) rfl 0 (by decide) q299 rfl (fun h n u hV => o_fld fr2 hV) dX1_whyNotSpray_6 ?_
    refine a_iload_1 (pc := 9) C dX1_whyNotSpray_9 ?_
    obtain ⟨w3, yw3, hw⟩ := hw
    refine o_callHi (pc := 10) C hs [.int p1] (st := []) yw3 (fun h n u hV => ct_X2_whyNotSpray l G _ _ _ _ hw h n u hV) (by decide) (by decide) q66 q1412 q1413 q1414 (lw_meth q1415) sg_X2_whyNotSpray (Nat.le_of_ble_eq_true rfl) dX1_whyNotSpray_10 (fun v6 s4 hw => o_top (fun σ5 eσ5 => ?_))
    have hw := hw σ5 eσ5
    exact a_xret (a_iret C dX1_whyNotSpray_13 (fun h n u hV => ⟨⟨(_, _), rfl, hw, hV⟩, o_end hs hV⟩))
  · exact ax_out C (fun x hx => (ht x hx).elim) (fun h n u hV => ⟨⟨k9, σx, rfl, hx, hV.1.same rfl rfl rfl, hV.2.2.2.2.2.1⟩, o_end hs hV⟩)
def wp_X1_hoursToGrow_L30 (kx11 : Int32 → OS → Prop) (q4 : Nat) (p1 : Int32) (p2 : Int32) : Nat → Int32 → OS → Prop
  | 0, _, _ => False
  | F + 1, x9, σ10 => (∃ w26 : MS × List Int32, σ10.2.1 q4 = some w26 ∧ (∃ w27 : MS × List Int32, σ10.2.1 q4 = some w27 ∧ vp_in p1 12 ∧ (((p2 ≤ (w27.1 3 p1.toNatClampNeg)) → (kx11 x9 σ10)) ∧ ((¬ p2 ≤ (w27.1 3 p1.toNatClampNeg)) → (∃ w29 : MS × List Int32, σ10.2.1 q4 = some w29 ∧ (∃ w30 : MS × List Int32, σ10.2.1 q4 = some w30 ∧ vp_in p1 12 ∧ ((((w30.1 6 p1.toNatClampNeg) = 6) → (kx11 x9 σ10)) ∧ ((¬ (w30.1 6 p1.toNatClampNeg) = 6) → (((240 < x9) → (kx11 x9 σ10)) ∧ ((¬ 240 < x9) → (∃ w33 : MS × List Int32, σ10.2.1 q4 = some w33 ∧ wp_X2_hour (w33.1, w33.2, σ10.2.2.1) (fun v36 s34 => ∀ σ35 : OS, σ35 = oHc σ10 q4 s34 → (wp_X1_hoursToGrow_L30 kx11 q4 p1 p2 F (x9 + 1) σ35)))))))))))))
def wp_X1_hoursToGrow (a : Nat) (p1 : Int32) (p2 : Int32) (σ : OS) (Q : Int32 → OS → Prop) (X : Nat → OS → Prop) : Prop := (oC σ a 0 ∧ wp_X1_needLot a p1 σ (fun σ1 => (wp_X1_isWithin p2 0 100 (fun v2 => wp_X1_needArgument v2 σ1 (fun σ3 => (3 ≤ σ3.2.2.1 ∧ ∀ q4 : Nat, oFr σ3 q4 → (σ3.2.2.2.1 ≠ 0 → q4 = σ3.2.2.2.1) → ∀ σ5 : OS, σ5 = oNew σ3 q4 3 (.inr (1, [.null, .null, .null, .null, .null, .null, .null, .null, .null, .null, .int 0, .int 0, .int 0, .int 0, .int 0, .int 0, .int 0, .int 0, .int 0, .int 0, .int 0, .int 0])) → (∃ r6 : Nat, oF σ5 a 0 0 (.ref r6) ∧ wp_X2_init_2 q4 r6 σ5 (fun σ7 => (∃ (y : MS) (L : List Int32), oHouse σ7 q4 y L ∧ ∀ σ8 : OS, σ8 = oFold σ7 q4 y L → (jn (fun (x12 : Int32) (σ13 : OS) => (jn (fun (x16 : Int32) => (((¬ x16 = 0) → (Q ((-1)) σ13)) ∧ ((x16 = 0) → (∃ w18 : MS × List Int32, σ13.2.1 q4 = some w18 ∧ (∃ w19 : MS × List Int32, σ13.2.1 q4 = some w19 ∧ vp_in p1 12 ∧ (((p2 ≤ (w19.1 3 p1.toNatClampNeg)) → (Q x12 σ13)) ∧ ((¬ p2 ≤ (w19.1 3 p1.toNatClampNeg)) → (Q ((-1)) σ13)))))))) (fun kj15 => (((x12 ≤ 0) → (((x12 ≤ 240) → (kj15 0)) ∧ ((¬ x12 ≤ 240) → (kj15 1)))) ∧ ((¬ x12 ≤ 0) → (∃ w22 : MS × List Int32, σ13.2.1 q4 = some w22 ∧ (∃ w23 : MS × List Int32, σ13.2.1 q4 = some w23 ∧ vp_in p1 12 ∧ ((((w23.1 6 p1.toNatClampNeg) = 6) → (kj15 1)) ∧ ((¬ (w23.1 6 p1.toNatClampNeg) = 6) → (((x12 ≤ 240) → (kj15 0)) ∧ ((¬ x12 ≤ 240) → (kj15 1)))))))))))) (fun kx11 => wp_X1_hoursToGrow_L30 kx11 q4 p1 p2 mF 0 σ8))))))) X))) X)
theorem sg_X1_hoursToGrow : aSig yX1_hoursToGrow 2 := by decide +kernel
set_option maxHeartbeats 4000000 in
theorem ct_X1_hoursToGrow (l : Launch) (G : aG) (a : Nat) (p1 : Int32) (p2 : Int32) (E : Nat → Prop) (σ : OS) (Q : Int32 → OS → Prop) (X : Nat → OS → Prop) (hw : wp_X1_hoursToGrow a p1 p2 σ Q X) (h0 : AH) (n0 u0 : Nat) (hB : OB h0 n0 E σ) : CTX l yX1_hoursToGrow (ws_ yX1_hoursToGrow cX1_hoursToGrow 6 (some .int)) 20 G [.ref a, .int p1, .int p2] h0 n0 u0 σ.2.2.1 (10 * σ.2.2.1) (o_pi Q h0 n0 u0 E σ.2.2.1) (o_px X h0 E) := by
  refine CTX.intro [some (.ref a), some (.int p1), some (.int p2), none, none, none] pn_RX1 rfl (Nat.le_of_ble_eq_true rfl) ?_
  intro p e s m args below meth c C hz hu ht
  have hs : s.heap.size = n0 ∧ slT s.heap = u0 := ⟨hz, hu⟩
  refine a_world (V1 := OW h0 n0 u0 E σ.2.2.1 σ) (OW.start hB) ?_
  unfold wp_X1_hoursToGrow at hw
  refine a_aload_0 (pc := 0) C dX1_hoursToGrow_0 ?_
  refine a_iload_1 (pc := 1) C dX1_hoursToGrow_1 ?_
  refine o_callXVv (pc := 2) C hs [.int p1] (b := a) (ci := 0) (st := []) (fun h n u hB => ct_X1_needLot l G a _ E _ _ _ hw.2 h n u hB) (by decide) (by decide) rfl hw.1 q65 q1307 q1309 qs25 (lw_meth q1310) sg_X1_needLot (Nat.le_of_ble_eq_true rfl) dX1_hoursToGrow_2 (fun σ1 hw => ?_) (fun k9 σx hx => ?_)
  · refine a_iload_2 (pc := 5) C dX1_hoursToGrow_5 ?_
    refine a_iconst (pc := 6) C dX1_hoursToGrow_6 ic_0 ?_
    refine a_bipush (pc := 7) C dX1_hoursToGrow_7 bc_100 ?_
    refine o_callSp (pc := 9) C hs [.int p2, .int 0, .int 100] (st := []) (fun h n u => ct_X1_isWithin l G _ _ _ _ hw h n u) (by decide) (by decide) (lw_S q1230 q856 q65 q857) sg_X1_isWithin (Nat.le_of_ble_eq_true rfl) dX1_hoursToGrow_9 (fun v2 hw => ?_)
    refine o_callXSv (pc := 12) C hs [.int v2] (st := []) (fun h n u hB => ct_X1_needArgument l G _ E _ _ _ hw h n u hB) (by decide) (by decide) (lw_S q1231 q1232 q65 q1233) sg_X1_needArgument (Nat.le_of_ble_eq_true rfl) dX1_hoursToGrow_12 (fun σ3 hw => ?_) (fun k9 σx hx => ?_)
    · refine o_newC (pc := 15) C hs 3 in_X2 tyX2 tyX2_ok q109 q110 q66 (ci := 1) (fs := [.null, .null, .null, .null, .null, .null, .null, .null, .null, .null, .int 0, .int 0, .int 0, .int 0, .int 0, .int 0, .int 0, .int 0, .int 0, .int 0, .int 0, .int 0]) rfl (by decide) (fun f z => by cases z) (by decide) (by decide) hw.1 dX1_hoursToGrow_15 (fun q4 frq4 nxq4 σ5 eσ5 => ?_)
      have hw := hw.2 q4 frq4 nxq4 σ5 eσ5
      refine a_dup (pc := 18) C dX1_hoursToGrow_18 rfl ?_
      refine a_aload_0 (pc := 19) C dX1_hoursToGrow_19 ?_
      obtain ⟨r6, fr6, hw⟩ := hw
      refine a_getf (pc := 20) C (ref := "MaltDrums") in_X1 (ci := 0) rfl 0 (by decide) q299 rfl (fun h n u hV => o_fld fr6 hV) dX1_hoursToGrow_20 ?_
      refine o_callIv (pc := 23) C hs [.ref r6] (b := q4) (st := [.ref q4]) (fun h n u hB => ct_X2_init_2 l G q4 _ E _ _ hw h n u hB) (by decide) (by decide) q66 q971 q972 rfl (lw_meth q973) sg_X2_init_2 (Nat.le_of_ble_eq_true rfl) dX1_hoursToGrow_23 (fun σ7 hw => ?_)
      obtain ⟨y, L, hH, hw⟩ := hw
      refine a_world (fun h n u hV => hV.fold hH) ?_
      refine o_top (fun σ8 eσ8 => ?_)
      have hw := hw σ8 eσ8
      refine a_astore_3 (pc := 26) C dX1_hoursToGrow_26 (by decide) rfl ?_
      refine a_iconst (pc := 27) C dX1_hoursToGrow_27 ic_0 ?_
      refine a_istore_4 (pc := 28) C dX1_hoursToGrow_28 (by decide) rfl ?_
      refine jn_use hw (fun kx11 ekx11 hw => ?_)
      have hkx11 : ∀ (x12 : Int32) (σ13 : OS), kx11 x12 σ13 → AW G p l e (aRm 20 σ.2.2.1 (10 * σ.2.2.1)) s m args below meth c (a_A h0 n0) 6 (vx_MQ below (a_Qc G (o_pi Q h0 n0 u0 E σ.2.2.1) (a_A h0 n0)) (a_XC G (o_px X h0 E) (a_A h0 n0)) args s σ.2.2.1 (10 * σ.2.2.1) (a_A h0 n0)) (OW h0 n0 u0 E σ.2.2.1 σ13) 70 [some (.ref a), some (.int p1), some (.int p2), some (.ref q4), some (.int x12), none] [] := by
        intro x12 σ13 hw
        rw [ekx11] at hw
        refine a_iload_4 (pc := 70) C dX1_hoursToGrow_70 ?_
        refine jn_use hw (fun kj15 ekj15 hw => ?_)
        have hkj15 : ∀ (x16 : Int32), kj15 x16 → AW G p l e (aRm 20 σ.2.2.1 (10 * σ.2.2.1)) s m args below meth c (a_A h0 n0) 6 (vx_MQ below (a_Qc G (o_pi Q h0 n0 u0 E σ.2.2.1) (a_A h0 n0)) (a_XC G (o_px X h0 E) (a_A h0 n0)) args s σ.2.2.1 (10 * σ.2.2.1) (a_A h0 n0)) (OW h0 n0 u0 E σ.2.2.1 σ13) 99 [some (.ref a), some (.int p1), some (.int p2), some (.ref q4), some (.int x12), none] [.int x16] := by
          intro x16 hw
          rw [ekj15] at hw
          refine a_istore_5 (pc := 99) C dX1_hoursToGrow_99 (by decide) rfl ?_
          refine a_iload_5 (pc := 101) C dX1_hoursToGrow_101 ?_
          refine a_if_ne (pc := 103) C 116 dX1_hoursToGrow_103 (by decide) (fun c17 => ?_) (fun c17 => ?_)
          · have hw := hw.1 c17
            refine a_iconst (pc := 116) C dX1_hoursToGrow_116 ic_m1 ?_
            refine a_goto (pc := 117) C 122 dX1_hoursToGrow_117 (by decide) ?_
            exact a_xret (a_iret C dX1_hoursToGrow_122 (fun h n u hV => ⟨⟨(_, _), rfl, hw, hV⟩, o_end hs hV⟩))
          · have hw := hw.2 c17
            refine a_aload_3 (pc := 106) C dX1_hoursToGrow_106 ?_
            obtain ⟨w18, yw18, hw⟩ := hw
            refine a_getfN (pc := 107) C (ref := "MaltDrums$House") (v := .ref (q4 + 1 + 3)) in_X2 (ci := 1) rfl 3 (by decide) q164 rfl (fun h n u hV => o_hfld yw18 (fun _ => rfl) hV) dX1_hoursToGrow_107 ?_
            refine a_iload_1 (pc := 110) C dX1_hoursToGrow_110 ?_
            obtain ⟨w19, yw19, iw19, hw⟩ := hw
            refine o_hiald (pc := 111) C yw19 (by decide) iw19 dX1_hoursToGrow_111 ?_
            refine a_iload_2 (pc := 112) C dX1_hoursToGrow_112 ?_
            refine a_icmp_ge (pc := 113) C 120 dX1_hoursToGrow_113 (by decide) (fun c20 => ?_) (fun c20 => ?_)
            · have hw := hw.1 c20
              refine a_iload_4 (pc := 120) C dX1_hoursToGrow_120 ?_
              exact a_xret (a_iret C dX1_hoursToGrow_122 (fun h n u hV => ⟨⟨(_, _), rfl, hw, hV⟩, o_end hs hV⟩))
            · have hw := hw.2 c20
              refine a_iconst (pc := 116) C dX1_hoursToGrow_116 ic_m1 ?_
              refine a_goto (pc := 117) C 122 dX1_hoursToGrow_117 (by decide) ?_
              exact a_xret (a_iret C dX1_hoursToGrow_122 (fun h n u hV => ⟨⟨(_, _), rfl, hw, hV⟩, o_end hs hV⟩))
        refine a_if_le (pc := 72) C 86 dX1_hoursToGrow_72 (by decide) (fun c14 => ?_) (fun c14 => ?_)
        · have hw := hw.1 c14
          refine a_iload_4 (pc := 86) C dX1_hoursToGrow_86 ?_
          refine a_sipush (pc := 88) C dX1_hoursToGrow_88 sc_240 ?_
          refine a_icmp_le (pc := 91) C 98 dX1_hoursToGrow_91 (by decide) (fun c21 => ?_) (fun c21 => ?_)
          · have hw := hw.1 c21
            refine a_iconst (pc := 98) C dX1_hoursToGrow_98 ic_0 ?_
            exact hkj15 _ hw
          · have hw := hw.2 c21
            refine a_iconst (pc := 94) C dX1_hoursToGrow_94 ic_1 ?_
            refine a_goto (pc := 95) C 99 dX1_hoursToGrow_95 (by decide) ?_
            exact hkj15 _ hw
        · have hw := hw.2 c14
          refine a_aload_3 (pc := 75) C dX1_hoursToGrow_75 ?_
          obtain ⟨w22, yw22, hw⟩ := hw
          refine a_getfN (pc := 76) C (ref := "MaltDrums$House") (v := .ref (q4 + 1 + 6)) in_X2 (ci := 1) rfl 6 (by decide) q170 rfl (fun h n u hV => o_hfld yw22 (fun _ => rfl) hV) dX1_hoursToGrow_76 ?_
          refine a_iload_1 (pc := 79) C dX1_hoursToGrow_79 ?_
          obtain ⟨w23, yw23, iw23, hw⟩ := hw
          refine o_hiald (pc := 80) C yw23 (by decide) iw23 dX1_hoursToGrow_80 ?_
          refine a_bipush (pc := 81) C dX1_hoursToGrow_81 bc_6 ?_
          refine a_icmp_eq (pc := 83) C 94 dX1_hoursToGrow_83 (by decide) (fun c24 => ?_) (fun c24 => ?_)
          · have hw := hw.1 c24
            refine a_iconst (pc := 94) C dX1_hoursToGrow_94 ic_1 ?_
            refine a_goto (pc := 95) C 99 dX1_hoursToGrow_95 (by decide) ?_
            exact hkj15 _ hw
          · have hw := hw.2 c24
            refine a_iload_4 (pc := 86) C dX1_hoursToGrow_86 ?_
            refine a_sipush (pc := 88) C dX1_hoursToGrow_88 sc_240 ?_
            refine a_icmp_le (pc := 91) C 98 dX1_hoursToGrow_91 (by decide) (fun c25 => ?_) (fun c25 => ?_)
            · have hw := hw.1 c25
              refine a_iconst (pc := 98) C dX1_hoursToGrow_98 ic_0 ?_
              exact hkj15 _ hw
            · have hw := hw.2 c25
              refine a_iconst (pc := 94) C dX1_hoursToGrow_94 ic_1 ?_
              refine a_goto (pc := 95) C 99 dX1_hoursToGrow_95 (by decide) ?_
              exact hkj15 _ hw
      have lp30 : ∀ (F : Nat) (x9 : Int32) (σ10 : OS), wp_X1_hoursToGrow_L30 kx11 q4 p1 p2 F x9 σ10 → AW G p l e (aRm 20 σ.2.2.1 (10 * σ.2.2.1)) s m args below meth c (a_A h0 n0) 6 (vx_MQ below (a_Qc G (o_pi Q h0 n0 u0 E σ.2.2.1) (a_A h0 n0)) (a_XC G (o_px X h0 E) (a_A h0 n0)) args s σ.2.2.1 (10 * σ.2.2.1) (a_A h0 n0)) (OW h0 n0 u0 E σ.2.2.1 σ10) 30 [some (.ref a), some (.int p1), some (.int p2), some (.ref q4), some (.int x9), none] [] := by
        intro F
        induction F with
        | zero => intro x9 σ10 hw; exact False.elim hw
        | succ F ih =>
          intro x9 σ10 hw
          rw [wp_X1_hoursToGrow_L30] at hw
          refine a_aload_3 (pc := 30) C dX1_hoursToGrow_30 ?_
          obtain ⟨w26, yw26, hw⟩ := hw
          refine a_getfN (pc := 31) C (ref := "MaltDrums$House") (v := .ref (q4 + 1 + 3)) in_X2 (ci := 1) rfl 3 (by decide) q164 rfl (fun h n u hV => o_hfld yw26 (fun _ => rfl) hV) dX1_hoursToGrow_31 ?_
          refine a_iload_1 (pc := 34) C dX1_hoursToGrow_34 ?_
          obtain ⟨w27, yw27, iw27, hw⟩ := hw
          refine o_hiald (pc := 35) C yw27 (by decide) iw27 dX1_hoursToGrow_35 ?_
          refine a_iload_2 (pc := 36) C dX1_hoursToGrow_36 ?_
          refine a_icmp_ge (pc := 37) C 70 dX1_hoursToGrow_37 (by decide) (fun c28 => ?_) (fun c28 => ?_)
          · have hw := hw.1 c28
            exact hkx11 _ _ hw
          · have hw := hw.2 c28
            refine a_aload_3 (pc := 40) C dX1_hoursToGrow_40 ?_
            obtain ⟨w29, yw29, hw⟩ := hw
            refine a_getfN (pc := 41) C (ref := "MaltDrums$House") (v := .ref (q4 + 1 + 6)) in_X2 (ci := 1) rfl 6 (by decide) q170 rfl (fun h n u hV => o_hfld yw29 (fun _ => rfl) hV) dX1_hoursToGrow_41 ?_
            refine a_iload_1 (pc := 44) C dX1_hoursToGrow_44 ?_
            obtain ⟨w30, yw30, iw30, hw⟩ := hw
            refine o_hiald (pc := 45) C yw30 (by decide) iw30 dX1_hoursToGrow_45 ?_
            refine a_bipush (pc := 46) C dX1_hoursToGrow_46 bc_6 ?_
            refine a_icmp_eq (pc := 48) C 70 dX1_hoursToGrow_48 (by decide) (fun c31 => ?_) (fun c31 => ?_)
            · have hw := hw.1 c31
              exact hkx11 _ _ hw
            · have hw := hw.2 c31
              refine a_iload_4 (pc := 51) C dX1_hoursToGrow_51 ?_
              refine a_sipush (pc := 53) C dX1_hoursToGrow_53 sc_240 ?_
              refine a_icmp_gt (pc := 56) C 70 dX1_hoursToGrow_56 (by decide) (fun c32 => ?_) (fun c32 => ?_)
              · have hw := hw.1 c32
                exact hkx11 _ _ hw
              · have hw := hw.2 c32
                refine a_aload_3 (pc := 59) C dX1_hoursToGrow_59 ?_
                obtain ⟨w33, yw33, hw⟩ := hw
                refine o_callHi (pc := 60) C hs [] (st := []) yw33 (fun h n u hV => ct_X2_hour l G _ _ _ hw h n u hV) (by decide) (by decide) q66 q1026 q1027 q1028 (lw_meth q1029) sg_X2_hour (Nat.le_of_ble_eq_true rfl) dX1_hoursToGrow_60 (fun v36 s34 hw => o_top (fun σ35 eσ35 => ?_))
                have hw := hw σ35 eσ35
                refine a_pop (pc := 63) C dX1_hoursToGrow_63 rfl ?_
                refine a_iinc_4 (pc := 64) (v := 1) C dX1_hoursToGrow_64 (by decide) (by decide) rfl ?_
                refine a_goto (pc := 67) C 30 dX1_hoursToGrow_67 (by decide) ?_
                exact ih _ _ hw
      exact lp30 mF _ _ hw
    · exact ax_out C (fun x hx => (ht x hx).elim) (fun h n u hV => ⟨⟨k9, σx, rfl, hx, hV.1.same rfl rfl rfl, hV.2.2.2.2.2.1⟩, o_end hs hV⟩)
  · exact ax_out C (fun x hx => (ht x hx).elim) (fun h n u hV => ⟨⟨k9, σx, rfl, hx, hV.1.same rfl rfl rfl, hV.2.2.2.2.2.1⟩, o_end hs hV⟩)
def wp_X1_hoursToSpoil_L19 (kx9 : Int32 → OS → Prop) (q2 : Nat) (p1 : Int32) : Nat → Int32 → OS → Prop
  | 0, _, _ => False
  | F + 1, x7, σ8 => (∃ w15 : MS × List Int32, σ8.2.1 q2 = some w15 ∧ (∃ w16 : MS × List Int32, σ8.2.1 q2 = some w16 ∧ vp_in p1 12 ∧ ((((w16.1 6 p1.toNatClampNeg) = 6) → (kx9 x7 σ8)) ∧ ((¬ (w16.1 6 p1.toNatClampNeg) = 6) → (((240 ≤ x7) → (kx9 x7 σ8)) ∧ ((¬ 240 ≤ x7) → (∃ w19 : MS × List Int32, σ8.2.1 q2 = some w19 ∧ wp_X2_hour (w19.1, w19.2, σ8.2.2.1) (fun v22 s20 => ∀ σ21 : OS, σ21 = oHc σ8 q2 s20 → (wp_X1_hoursToSpoil_L19 kx9 q2 p1 F (x7 + 1) σ21)))))))))
def wp_X1_hoursToSpoil (a : Nat) (p1 : Int32) (σ : OS) (Q : Int32 → OS → Prop) (X : Nat → OS → Prop) : Prop := (oC σ a 0 ∧ wp_X1_needLot a p1 σ (fun σ1 => (3 ≤ σ1.2.2.1 ∧ ∀ q2 : Nat, oFr σ1 q2 → (σ1.2.2.2.1 ≠ 0 → q2 = σ1.2.2.2.1) → ∀ σ3 : OS, σ3 = oNew σ1 q2 3 (.inr (1, [.null, .null, .null, .null, .null, .null, .null, .null, .null, .null, .int 0, .int 0, .int 0, .int 0, .int 0, .int 0, .int 0, .int 0, .int 0, .int 0, .int 0, .int 0])) → (∃ r4 : Nat, oF σ3 a 0 0 (.ref r4) ∧ wp_X2_init_2 q2 r4 σ3 (fun σ5 => (∃ (y : MS) (L : List Int32), oHouse σ5 q2 y L ∧ ∀ σ6 : OS, σ6 = oFold σ5 q2 y L → (jn (fun (x10 : Int32) (σ11 : OS) => (∃ w12 : MS × List Int32, σ11.2.1 q2 = some w12 ∧ (∃ w13 : MS × List Int32, σ11.2.1 q2 = some w13 ∧ vp_in p1 12 ∧ (((¬ (w13.1 6 p1.toNatClampNeg) = 6) → (Q ((-1)) σ11)) ∧ (((w13.1 6 p1.toNatClampNeg) = 6) → (Q x10 σ11)))))) (fun kx9 => wp_X1_hoursToSpoil_L19 kx9 q2 p1 mF 0 σ6))))))) X)
theorem sg_X1_hoursToSpoil : aSig yX1_hoursToSpoil 1 := by decide +kernel
set_option maxHeartbeats 4000000 in
theorem ct_X1_hoursToSpoil (l : Launch) (G : aG) (a : Nat) (p1 : Int32) (E : Nat → Prop) (σ : OS) (Q : Int32 → OS → Prop) (X : Nat → OS → Prop) (hw : wp_X1_hoursToSpoil a p1 σ Q X) (h0 : AH) (n0 u0 : Nat) (hB : OB h0 n0 E σ) : CTX l yX1_hoursToSpoil (ws_ yX1_hoursToSpoil cX1_hoursToSpoil 4 (some .int)) 20 G [.ref a, .int p1] h0 n0 u0 σ.2.2.1 (10 * σ.2.2.1) (o_pi Q h0 n0 u0 E σ.2.2.1) (o_px X h0 E) := by
  refine CTX.intro [some (.ref a), some (.int p1), none, none] pn_RX1 rfl (Nat.le_of_ble_eq_true rfl) ?_
  intro p e s m args below meth c C hz hu ht
  have hs : s.heap.size = n0 ∧ slT s.heap = u0 := ⟨hz, hu⟩
  refine a_world (V1 := OW h0 n0 u0 E σ.2.2.1 σ) (OW.start hB) ?_
  unfold wp_X1_hoursToSpoil at hw
  refine a_aload_0 (pc := 0) C dX1_hoursToSpoil_0 ?_
  refine a_iload_1 (pc := 1) C dX1_hoursToSpoil_1 ?_
  refine o_callXVv (pc := 2) C hs [.int p1] (b := a) (ci := 0) (st := []) (fun h n u hB => ct_X1_needLot l G a _ E _ _ _ hw.2 h n u hB) (by decide) (by decide) rfl hw.1 q65 q1307 q1309 qs25 (lw_meth q1310) sg_X1_needLot (Nat.le_of_ble_eq_true rfl) dX1_hoursToSpoil_2 (fun σ1 hw => ?_) (fun k9 σx hx => ?_)
  · refine o_newC (pc := 5) C hs 3 in_X2 tyX2 tyX2_ok q109 q110 q66 (ci := 1) (fs := [.null, .null, .null, .null, .null, .null, .null, .null, .null, .null, .int 0, .int 0, .int 0, .int 0, .int 0, .int 0, .int 0, .int 0, .int 0, .int 0, .int 0, .int 0]) rfl (by decide) (fun f z => by cases z) (by decide) (by decide) hw.1 dX1_hoursToSpoil_5 (fun q2 frq2 nxq2 σ3 eσ3 => ?_)
    have hw := hw.2 q2 frq2 nxq2 σ3 eσ3
    refine a_dup (pc := 8) C dX1_hoursToSpoil_8 rfl ?_
    refine a_aload_0 (pc := 9) C dX1_hoursToSpoil_9 ?_
    obtain ⟨r4, fr4, hw⟩ := hw
    refine a_getf (pc := 10) C (ref := "MaltDrums") in_X1 (ci := 0) rfl 0 (by decide) q299 rfl (fun h n u hV => o_fld fr4 hV) dX1_hoursToSpoil_10 ?_
    refine o_callIv (pc := 13) C hs [.ref r4] (b := q2) (st := [.ref q2]) (fun h n u hB => ct_X2_init_2 l G q2 _ E _ _ hw h n u hB) (by decide) (by decide) q66 q971 q972 rfl (lw_meth q973) sg_X2_init_2 (Nat.le_of_ble_eq_true rfl) dX1_hoursToSpoil_13 (fun σ5 hw => ?_)
    obtain ⟨y, L, hH, hw⟩ := hw
    refine a_world (fun h n u hV => hV.fold hH) ?_
    refine o_top (fun σ6 eσ6 => ?_)
    have hw := hw σ6 eσ6
    refine a_astore_2 (pc := 16) C dX1_hoursToSpoil_16 (by decide) rfl ?_
    refine a_iconst (pc := 17) C dX1_hoursToSpoil_17 ic_0 ?_
    refine a_istore_3 (pc := 18) C dX1_hoursToSpoil_18 (by decide) rfl ?_
    refine jn_use hw (fun kx9 ekx9 hw => ?_)
    have hkx9 : ∀ (x10 : Int32) (σ11 : OS), kx9 x10 σ11 → AW G p l e (aRm 20 σ.2.2.1 (10 * σ.2.2.1)) s m args below meth c (a_A h0 n0) 4 (vx_MQ below (a_Qc G (o_pi Q h0 n0 u0 E σ.2.2.1) (a_A h0 n0)) (a_XC G (o_px X h0 E) (a_A h0 n0)) args s σ.2.2.1 (10 * σ.2.2.1) (a_A h0 n0)) (OW h0 n0 u0 E σ.2.2.1 σ11) 48 [some (.ref a), some (.int p1), some (.ref q2), some (.int x10)] [] := by
      intro x10 σ11 hw
      rw [ekx9] at hw
      refine a_aload_2 (pc := 48) C dX1_hoursToSpoil_48 ?_
      obtain ⟨w12, yw12, hw⟩ := hw
      refine a_getfN (pc := 49) C (ref := "MaltDrums$House") (v := .ref (q2 + 1 + 6)) in_X2 (ci := 1) rfl 6 (by decide) q170 rfl (fun h n u hV => o_hfld yw12 (fun _ => rfl) hV) dX1_hoursToSpoil_49 ?_
      refine a_iload_1 (pc := 52) C dX1_hoursToSpoil_52 ?_
      obtain ⟨w13, yw13, iw13, hw⟩ := hw
      refine o_hiald (pc := 53) C yw13 (by decide) iw13 dX1_hoursToSpoil_53 ?_
      refine a_bipush (pc := 54) C dX1_hoursToSpoil_54 bc_6 ?_
      refine a_icmp_ne (pc := 56) C 63 dX1_hoursToSpoil_56 (by decide) (fun c14 => ?_) (fun c14 => ?_)
      · have hw := hw.1 c14
        refine a_iconst (pc := 63) C dX1_hoursToSpoil_63 ic_m1 ?_
        exact a_xret (a_iret C dX1_hoursToSpoil_64 (fun h n u hV => ⟨⟨(_, _), rfl, hw, hV⟩, o_end hs hV⟩))
      · have hw := hw.2 c14
        refine a_iload_3 (pc := 59) C dX1_hoursToSpoil_59 ?_
        refine a_goto (pc := 60) C 64 dX1_hoursToSpoil_60 (by decide) ?_
        exact a_xret (a_iret C dX1_hoursToSpoil_64 (fun h n u hV => ⟨⟨(_, _), rfl, hw, hV⟩, o_end hs hV⟩))
    have lp19 : ∀ (F : Nat) (x7 : Int32) (σ8 : OS), wp_X1_hoursToSpoil_L19 kx9 q2 p1 F x7 σ8 → AW G p l e (aRm 20 σ.2.2.1 (10 * σ.2.2.1)) s m args below meth c (a_A h0 n0) 4 (vx_MQ below (a_Qc G (o_pi Q h0 n0 u0 E σ.2.2.1) (a_A h0 n0)) (a_XC G (o_px X h0 E) (a_A h0 n0)) args s σ.2.2.1 (10 * σ.2.2.1) (a_A h0 n0)) (OW h0 n0 u0 E σ.2.2.1 σ8) 19 [some (.ref a), some (.int p1), some (.ref q2), some (.int x7)] [] := by
      intro F
      induction F with
      | zero => intro x7 σ8 hw; exact False.elim hw
      | succ F ih =>
        intro x7 σ8 hw
        rw [wp_X1_hoursToSpoil_L19] at hw
        refine a_aload_2 (pc := 19) C dX1_hoursToSpoil_19 ?_
        obtain ⟨w15, yw15, hw⟩ := hw
        refine a_getfN (pc := 20) C (ref := "MaltDrums$House") (v := .ref (q2 + 1 + 6)) in_X2 (ci := 1) rfl 6 (by decide) q170 rfl (fun h n u hV => o_hfld yw15 (fun _ => rfl) hV) dX1_hoursToSpoil_20 ?_
        refine a_iload_1 (pc := 23) C dX1_hoursToSpoil_23 ?_
        obtain ⟨w16, yw16, iw16, hw⟩ := hw
        refine o_hiald (pc := 24) C yw16 (by decide) iw16 dX1_hoursToSpoil_24 ?_
        refine a_bipush (pc := 25) C dX1_hoursToSpoil_25 bc_6 ?_
        refine a_icmp_eq (pc := 27) C 48 dX1_hoursToSpoil_27 (by decide) (fun c17 => ?_) (fun c17 => ?_)
        · have hw := hw.1 c17
          exact hkx9 _ _ hw
        · have hw := hw.2 c17
          refine a_iload_3 (pc := 30) C dX1_hoursToSpoil_30 ?_
          refine a_sipush (pc := 31) C dX1_hoursToSpoil_31 sc_240 ?_
          refine a_icmp_ge (pc := 34) C 48 dX1_hoursToSpoil_34 (by decide) (fun c18 => ?_) (fun c18 => ?_)
          · have hw := hw.1 c18
            exact hkx9 _ _ hw
          · have hw := hw.2 c18
            refine a_aload_2 (pc := 37) C dX1_hoursToSpoil_37 ?_
            obtain ⟨w19, yw19, hw⟩ := hw
            refine o_callHi (pc := 38) C hs [] (st := []) yw19 (fun h n u hV => ct_X2_hour l G _ _ _ hw h n u hV) (by decide) (by decide) q66 q1026 q1027 q1028 (lw_meth q1029) sg_X2_hour (Nat.le_of_ble_eq_true rfl) dX1_hoursToSpoil_38 (fun v22 s20 hw => o_top (fun σ21 eσ21 => ?_))
            have hw := hw σ21 eσ21
            refine a_pop (pc := 41) C dX1_hoursToSpoil_41 rfl ?_
            refine a_iinc_3 (pc := 42) (v := 1) C dX1_hoursToSpoil_42 (by decide) (by decide) rfl ?_
            refine a_goto (pc := 45) C 19 dX1_hoursToSpoil_45 (by decide) ?_
            exact ih _ _ hw
    exact lp19 mF _ _ hw
  · exact ax_out C (fun x hx => (ht x hx).elim) (fun h n u hV => ⟨⟨k9, σx, rfl, hx, hV.1.same rfl rfl rfl, hV.2.2.2.2.2.1⟩, o_end hs hV⟩)
def wp_X1_bestAir_L22 (kx11 : Int32 → Int32 → Int32 → OS → Prop) (v6 : Int32) (a : Nat) (p1 : Int32) : Nat → Int32 → Int32 → Int32 → OS → Prop
  | 0, _, _, _, _ => False
  | F + 1, x7, x8, x9, σ10 => (((3 < x9) → (kx11 x7 x8 x9 σ10)) ∧ ((¬ 3 < x9) → (((v6 = ((-1))) → (kx11 x7 x8 x9 σ10)) ∧ ((¬ v6 = ((-1))) → (3 ≤ σ10.2.2.1 ∧ ∀ q18 : Nat, oFr σ10 q18 → (σ10.2.2.2.1 ≠ 0 → q18 = σ10.2.2.2.1) → ∀ σ19 : OS, σ19 = oNew σ10 q18 3 (.inr (1, [.null, .null, .null, .null, .null, .null, .null, .null, .null, .null, .int 0, .int 0, .int 0, .int 0, .int 0, .int 0, .int 0, .int 0, .int 0, .int 0, .int 0, .int 0])) → (∃ r20 : Nat, oF σ19 a 0 0 (.ref r20) ∧ wp_X2_init_2 q18 r20 σ19 (fun σ21 => (∃ (y : MS) (L : List Int32), oHouse σ21 q18 y L ∧ ∀ σ22 : OS, σ22 = oFold σ21 q18 y L → (∃ w23 : MS × List Int32, σ22.2.1 q18 = some w23 ∧ (∃ w24 : MS × List Int32, σ22.2.1 q18 = some w24 ∧ vp_in v6 4 ∧ (∃ w26 : MS × List Int32, σ22.2.1 q18 = some w26 ∧ (v6.toNatClampNeg) < 4 ∧ ∀ σ25 : OS, σ25 = (oHc σ22 q18 (hU (w26.1, w26.2, σ22.2.2.1) (7 + 1) (v6.toNatClampNeg) x9)) → (∃ w27 : MS × List Int32, σ25.2.1 q18 = some w27 ∧ wp_X2_pass 24 (w27.1, w27.2, σ25.2.2.1) (fun v30 s28 => ∀ σ29 : OS, σ29 = oHc σ25 q18 s28 → (∃ w31 : MS × List Int32, σ29.2.1 q18 = some w31 ∧ (∃ w32 : MS × List Int32, σ29.2.1 q18 = some w32 ∧ vp_in p1 12 ∧ (∀ v33 : Int32, v33 = iAbs ((w32.1 4 p1.toNatClampNeg) - 18) → (∃ w34 : MS × List Int32, σ29.2.1 q18 = some w34 ∧ (∃ w35 : MS × List Int32, σ29.2.1 q18 = some w35 ∧ vp_in p1 12 ∧ (jn (fun (x38 : Int32) => (jn (fun (x41 : Int32) => (jn (fun (x44 : Int32) => (wp_X1_bestAir_L22 kx11 v6 a p1 F x41 x44 (x9 + 1) σ29)) (fun kj43 => (((x38 = 0) → (kj43 x8)) ∧ ((¬ x38 = 0) → (kj43 v33)))))) (fun kj40 => (((x38 = 0) → (kj40 x7)) ∧ ((¬ x38 = 0) → (kj40 x9)))))) (fun kj37 => ((((w35.1 6 p1.toNatClampNeg) = 6) → (kj37 0)) ∧ ((¬ (w35.1 6 p1.toNatClampNeg) = 6) → (((x7 = ((-1))) → (kj37 1)) ∧ ((¬ x7 = ((-1))) → (((x8 ≤ v33) → (kj37 0)) ∧ ((¬ x8 ≤ v33) → (kj37 1)))))))))))))))))))))))))))
def wp_X1_bestAir (a : Nat) (p1 : Int32) (σ : OS) (Q : Int32 → OS → Prop) (X : Nat → OS → Prop) : Prop := (oC σ a 0 ∧ wp_X1_needLot a p1 σ (fun σ1 => (∃ r2 : Nat, oF σ1 a 0 0 (.ref r2) ∧ (∃ w3 : MS × List Int32, σ1.2.1 r2 = some w3 ∧ wp_X2_drumOf p1 (w3.1, w3.2, σ1.2.2.1) (fun v6 s4 => ∀ σ5 : OS, σ5 = oHc σ1 r2 s4 → (jn (fun (x12 : Int32) (x13 : Int32) (x14 : Int32) (σ15 : OS) => (Q x12 σ15)) (fun kx11 => wp_X1_bestAir_L22 kx11 v6 a p1 mF ((-1)) 0 0 σ5)))))) X)
theorem sg_X1_bestAir : aSig yX1_bestAir 1 := by decide +kernel
set_option maxHeartbeats 4000000 in
theorem ct_X1_bestAir (l : Launch) (G : aG) (a : Nat) (p1 : Int32) (E : Nat → Prop) (σ : OS) (Q : Int32 → OS → Prop) (X : Nat → OS → Prop) (hw : wp_X1_bestAir a p1 σ Q X) (h0 : AH) (n0 u0 : Nat) (hB : OB h0 n0 E σ) : CTX l yX1_bestAir (ws_ yX1_bestAir cX1_bestAir 9 (some .int)) 21 G [.ref a, .int p1] h0 n0 u0 σ.2.2.1 (10 * σ.2.2.1) (o_pi Q h0 n0 u0 E σ.2.2.1) (o_px X h0 E) := by
  refine CTX.intro [some (.ref a), some (.int p1), none, none, none, none, none, none, none] pn_RX1 rfl (Nat.le_of_ble_eq_true rfl) ?_
  intro p e s m args below meth c C hz hu ht
  have hs : s.heap.size = n0 ∧ slT s.heap = u0 := ⟨hz, hu⟩
  refine a_world (V1 := OW h0 n0 u0 E σ.2.2.1 σ) (OW.start hB) ?_
  unfold wp_X1_bestAir at hw
  refine a_aload_0 (pc := 0) C dX1_bestAir_0 ?_
  refine a_iload_1 (pc := 1) C dX1_bestAir_1 ?_
  refine o_callXVv (pc := 2) C hs [.int p1] (b := a) (ci := 0) (st := []) (fun h n u hB => ct_X1_needLot l G a _ E _ _ _ hw.2 h n u hB) (by decide) (by decide) rfl hw.1 q65 q1307 q1309 qs25 (lw_meth q1310) sg_X1_needLot (Nat.le_of_ble_eq_true rfl) dX1_bestAir_2 (fun σ1 hw => ?_) (fun k9 σx hx => ?_)
  · refine a_aload_0 (pc := 5) C dX1_bestAir_5 ?_
    obtain ⟨r2, fr2, hw⟩ := hw
    refine a_getf (pc := 6) C (ref := "MaltDrums") in_X1 (ci := 0) rfl 0 (by decide) q299 rfl (fun h n u hV => o_fld fr2 hV) dX1_bestAir_6 ?_
    refine a_iload_1 (pc := 9) C dX1_bestAir_9 ?_
    obtain ⟨w3, yw3, hw⟩ := hw
    refine o_callHi (pc := 10) C hs [.int p1] (st := []) yw3 (fun h n u hV => ct_X2_drumOf l G _ _ _ _ hw h n u hV) (by decide) (by decide) q66 q1604 q1045 q1046 (lw_meth q1047) sg_X2_drumOf (Nat.le_of_ble_eq_true rfl) dX1_bestAir_10 (fun v6 s4 hw => o_top (fun σ5 eσ5 => ?_))
    have hw := hw σ5 eσ5
    refine a_istore_2 (pc := 13) C dX1_bestAir_13 (by decide) rfl ?_
    refine a_iconst (pc := 14) C dX1_bestAir_14 ic_m1 ?_
    refine a_istore_3 (pc := 15) C dX1_bestAir_15 (by decide) rfl ?_
    refine a_iconst (pc := 16) C dX1_bestAir_16 ic_0 ?_
    refine a_istore_4 (pc := 17) C dX1_bestAir_17 (by decide) rfl ?_
    refine a_iconst (pc := 19) C dX1_bestAir_19 ic_0 ?_
    refine a_istore_5 (pc := 20) C dX1_bestAir_20 (by decide) rfl ?_
    refine jn_use hw (fun kx11 ekx11 hw => ?_)
    have hkx11 : ∀ (x12 : Int32) (x13 : Int32) (x14 : Int32) (σ15 : OS), kx11 x12 x13 x14 σ15 → AW G p l e (aRm 21 σ.2.2.1 (10 * σ.2.2.1)) s m args below meth c (a_A h0 n0) 9 (vx_MQ below (a_Qc G (o_pi Q h0 n0 u0 E σ.2.2.1) (a_A h0 n0)) (a_XC G (o_px X h0 E) (a_A h0 n0)) args s σ.2.2.1 (10 * σ.2.2.1) (a_A h0 n0)) (OW h0 n0 u0 E σ.2.2.1 σ15) 144 [some (.ref a), some (.int p1), some (.int v6), some (.int x12), some (.int x13), some (.int x14), none, none, none] [] := by
      intro x12 x13 x14 σ15 hw
      rw [ekx11] at hw
      refine a_iload_3 (pc := 144) C dX1_bestAir_144 ?_
      exact a_xret (a_iret C dX1_bestAir_145 (fun h n u hV => ⟨⟨(_, _), rfl, hw, hV⟩, o_end hs hV⟩))
    have lp22 : ∀ (F : Nat) (x7 : Int32) (x8 : Int32) (x9 : Int32) (σ10 : OS), wp_X1_bestAir_L22 kx11 v6 a p1 F x7 x8 x9 σ10 → AW G p l e (aRm 21 σ.2.2.1 (10 * σ.2.2.1)) s m args below meth c (a_A h0 n0) 9 (vx_MQ below (a_Qc G (o_pi Q h0 n0 u0 E σ.2.2.1) (a_A h0 n0)) (a_XC G (o_px X h0 E) (a_A h0 n0)) args s σ.2.2.1 (10 * σ.2.2.1) (a_A h0 n0)) (OW h0 n0 u0 E σ.2.2.1 σ10) 22 [some (.ref a), some (.int p1), some (.int v6), some (.int x7), some (.int x8), some (.int x9), none, none, none] [] := by
      intro F
      induction F with
      | zero => intro x7 x8 x9 σ10 hw; exact False.elim hw
      | succ F ih =>
        intro x7 x8 x9 σ10 hw
        rw [wp_X1_bestAir_L22] at hw
        refine a_iload_5 (pc := 22) C dX1_bestAir_22 ?_
        refine a_iconst (pc := 24) C dX1_bestAir_24 ic_3 ?_
        refine a_icmp_gt (pc := 25) C 144 dX1_bestAir_25 (by decide) (fun c16 => ?_) (fun c16 => ?_)
        · have hw := hw.1 c16
          exact hkx11 _ _ _ _ hw
        · have hw := hw.2 c16
          refine a_iload_2 (pc := 28) C dX1_bestAir_28 ?_
          refine a_iconst (pc := 29) C dX1_bestAir_29 ic_m1 ?_
          refine a_icmp_eq (pc := 30) C 144 dX1_bestAir_30 (by decide) (fun c17 => ?_) (fun c17 => ?_)
          · have hw := hw.1 c17
            exact hkx11 _ _ _ _ hw
          · have hw := hw.2 c17
            refine o_newC (pc := 33) C hs 3 in_X2 tyX2 tyX2_ok q109 q110 q66 (ci := 1) (fs := [.null, .null, .null, .null, .null, .null, .null, .null, .null, .null, .int 0, .int 0, .int 0, .int 0, .int 0, .int 0, .int 0, .int 0, .int 0, .int 0, .int 0, .int 0]) rfl (by decide) (fun f z => by cases z) (by decide) (by decide) hw.1 dX1_bestAir_33 (fun q18 frq18 nxq18 σ19 eσ19 => ?_)
            have hw := hw.2 q18 frq18 nxq18 σ19 eσ19
            refine a_dup (pc := 36) C dX1_bestAir_36 rfl ?_
            refine a_aload_0 (pc := 37) C dX1_bestAir_37 ?_
            obtain ⟨r20, fr20, hw⟩ := hw
            refine a_getf (pc := 38) C (ref := "MaltDrums") in_X1 (ci := 0) rfl 0 (by decide) q299 rfl (fun h n u hV => o_fld fr20 hV) dX1_bestAir_38 ?_
            refine o_callIv (pc := 41) C hs [.ref r20] (b := q18) (st := [.ref q18]) (fun h n u hB => ct_X2_init_2 l G q18 _ E _ _ hw h n u hB) (by decide) (by decide) q66 q971 q972 rfl (lw_meth q973) sg_X2_init_2 (Nat.le_of_ble_eq_true rfl) dX1_bestAir_41 (fun σ21 hw => ?_)
            obtain ⟨y, L, hH, hw⟩ := hw
            refine a_world (fun h n u hV => hV.fold hH) ?_
            refine o_top (fun σ22 eσ22 => ?_)
            have hw := hw σ22 eσ22
            refine a_astore_6 (pc := 44) C dX1_bestAir_44 (by decide) rfl ?_
            refine a_aload_6 (pc := 46) C dX1_bestAir_46 ?_
            obtain ⟨w23, yw23, hw⟩ := hw
            refine a_getfN (pc := 48) C (ref := "MaltDrums$House") (v := .ref (q18 + 8)) in_X2 (ci := 1) rfl 7 (by decide) q172 rfl (fun h n u hV => o_hfld yw23 (fun _ => rfl) hV) dX1_bestAir_48 ?_
            refine a_iload_2 (pc := 51) C dX1_bestAir_51 ?_
            obtain ⟨w24, yw24, iw24, hw⟩ := hw
            refine o_haald (pc := 52) C yw24 iw24 dX1_bestAir_52 ?_
            refine a_iload_5 (pc := 53) C dX1_bestAir_53 ?_
            obtain ⟨w26, yw26, dw26, hw⟩ := hw
            refine a_dom fun h n u hV hdm => ?_
            refine a_putfN (pc := 55) C (ref := "MaltDrums$Drum") (V1 := OW h0 n0 u0 E σ.2.2.1 (oHc σ22 q18 (hU (w26.1, w26.2, σ22.2.2.1) (7 + 1) (v6.toNatClampNeg) x9))) in_X5 tyX5 tyX5_ok nmX5 (ci := 3) rfl 1 (by decide) q143 rfl rfl rfl rfl (fun h n u hI => by obtain ⟨rfl, rfl, rfl⟩ := hI; exact o_hputd (k := 1) (x := x9) yw26 (by decide) dw26 hdm hV) dX1_bestAir_55 (o_top (fun σ25 eσ25 => ?_))
            have hw := hw σ25 eσ25
            refine a_aload_6 (pc := 58) C dX1_bestAir_58 ?_
            refine a_bipush (pc := 60) C dX1_bestAir_60 bc_24 ?_
            obtain ⟨w27, yw27, hw⟩ := hw
            refine o_callHi (pc := 62) C hs [.int 24] (st := []) yw27 (fun h n u hV => ct_X2_pass l G _ _ _ _ hw h n u hV) (by decide) (by decide) q66 q1465 q1466 q1467 (lw_meth q1468) sg_X2_pass (Nat.le_of_ble_eq_true rfl) dX1_bestAir_62 (fun v30 s28 hw => o_top (fun σ29 eσ29 => ?_))
            have hw := hw σ29 eσ29
            refine a_pop (pc := 65) C dX1_bestAir_65 rfl ?_
            refine a_aload_6 (pc := 66) C dX1_bestAir_66 ?_
            obtain ⟨w31, yw31, hw⟩ := hw
            refine a_getfN (pc := 68) C (ref := "MaltDrums$House") (v := .ref (q18 + 1 + 4)) in_X2 (ci := 1) rfl 4 (by decide) q166 rfl (fun h n u hV => o_hfld yw31 (fun _ => rfl) hV) dX1_bestAir_68 ?_
            refine a_iload_1 (pc := 71) C dX1_bestAir_71 ?_
            obtain ⟨w32, yw32, iw32, hw⟩ := hw
            refine o_hiald (pc := 72) C yw32 (by decide) iw32 dX1_bestAir_72 ?_
            refine a_bipush (pc := 73) C dX1_bestAir_73 bc_18 ?_
            refine a_isub (pc := 75) C dX1_bestAir_75 ?_
            refine a_mabs (pc := 76) C (MC := σ.2.2.1) (MS := 10 * σ.2.2.1) (by decide) (fun h n u hV => o_end hs hV) q1736 (Nat.le_of_ble_eq_true rfl) dX1_bestAir_76 (a_topi (fun v33 ev33 => ?_))
            have hw := hw v33 ev33
            refine a_istore_7 (pc := 79) C dX1_bestAir_79 (by decide) rfl ?_
            refine a_aload_6 (pc := 81) C dX1_bestAir_81 ?_
            obtain ⟨w34, yw34, hw⟩ := hw
            refine a_getfN (pc := 83) C (ref := "MaltDrums$House") (v := .ref (q18 + 1 + 6)) in_X2 (ci := 1) rfl 6 (by decide) q170 rfl (fun h n u hV => o_hfld yw34 (fun _ => rfl) hV) dX1_bestAir_83 ?_
            refine a_iload_1 (pc := 86) C dX1_bestAir_86 ?_
            obtain ⟨w35, yw35, iw35, hw⟩ := hw
            refine o_hiald (pc := 87) C yw35 (by decide) iw35 dX1_bestAir_87 ?_
            refine a_bipush (pc := 88) C dX1_bestAir_88 bc_6 ?_
            refine jn_use hw (fun kj37 ekj37 hw => ?_)
            have hkj37 : ∀ (x38 : Int32), kj37 x38 → AW G p l e (aRm 21 σ.2.2.1 (10 * σ.2.2.1)) s m args below meth c (a_A h0 n0) 9 (vx_MQ below (a_Qc G (o_pi Q h0 n0 u0 E σ.2.2.1) (a_A h0 n0)) (a_XC G (o_px X h0 E) (a_A h0 n0)) args s σ.2.2.1 (10 * σ.2.2.1) (a_A h0 n0)) (OW h0 n0 u0 E σ.2.2.1 σ29) 110 [some (.ref a), some (.int p1), some (.int v6), some (.int x7), some (.int x8), some (.int x9), some (.ref q18), some (.int v33), none] [.int x38] := by
              intro x38 hw
              rw [ekj37] at hw
              refine a_istore_8 (pc := 110) C dX1_bestAir_110 (by decide) rfl ?_
              refine a_iload_8 (pc := 112) C dX1_bestAir_112 ?_
              refine jn_use hw (fun kj40 ekj40 hw => ?_)
              have hkj40 : ∀ (x41 : Int32), kj40 x41 → AW G p l e (aRm 21 σ.2.2.1 (10 * σ.2.2.1)) s m args below meth c (a_A h0 n0) 9 (vx_MQ below (a_Qc G (o_pi Q h0 n0 u0 E σ.2.2.1) (a_A h0 n0)) (a_XC G (o_px X h0 E) (a_A h0 n0)) args s σ.2.2.1 (10 * σ.2.2.1) (a_A h0 n0)) (OW h0 n0 u0 E σ.2.2.1 σ29) 123 [some (.ref a), some (.int p1), some (.int v6), some (.int x7), some (.int x8), some (.int x9), some (.ref q18), some (.int v33), some (.int x38)] [.int x41] := by
                intro x41 hw
                rw [ekj40] at hw
                refine a_istore_3 (pc := 123) C dX1_bestAir_123 (by decide) rfl ?_
                refine a_iload_8 (pc := 124) C dX1_bestAir_124 ?_
                refine jn_use hw (fun kj43 ekj43 hw => ?_)
                have hkj43 : ∀ (x44 : Int32), kj43 x44 → AW G p l e (aRm 21 σ.2.2.1 (10 * σ.2.2.1)) s m args below meth c (a_A h0 n0) 9 (vx_MQ below (a_Qc G (o_pi Q h0 n0 u0 E σ.2.2.1) (a_A h0 n0)) (a_XC G (o_px X h0 E) (a_A h0 n0)) args s σ.2.2.1 (10 * σ.2.2.1) (a_A h0 n0)) (OW h0 n0 u0 E σ.2.2.1 σ29) 136 [some (.ref a), some (.int p1), some (.int v6), some (.int x41), some (.int x8), some (.int x9), some (.ref q18), some (.int v33), some (.int x38)] [.int x44] := by
                  intro x44 hw
                  rw [ekj43] at hw
                  refine a_istore_4 (pc := 136) C dX1_bestAir_136 (by decide) rfl ?_
                  refine a_iinc_5 (pc := 138) (v := 1) C dX1_bestAir_138 (by decide) (by decide) rfl ?_
                  refine a_goto (pc := 141) C 22 dX1_bestAir_141 (by decide) ?_
                  exact a_weak (a_le_some (a_le_some (a_le_some (a_le_some (a_le_some (a_le_some (a_le_none (a_le_none (a_le_none a_le_nil))))))))) (ih _ _ _ _ hw)
                refine a_if_eq (pc := 126) C 134 dX1_bestAir_126 (by decide) (fun c42 => ?_) (fun c42 => ?_)
                · have hw := hw.1 c42
                  refine a_iload_4 (pc := 134) C dX1_bestAir_134 ?_
                  exact hkj43 _ hw
                · have hw := hw.2 c42
                  refine a_iload_7 (pc := 129) C dX1_bestAir_129 ?_
                  refine a_goto (pc := 131) C 136 dX1_bestAir_131 (by decide) ?_
                  exact hkj43 _ hw
              refine a_if_eq (pc := 114) C 122 dX1_bestAir_114 (by decide) (fun c39 => ?_) (fun c39 => ?_)
              · have hw := hw.1 c39
                refine a_iload_3 (pc := 122) C dX1_bestAir_122 ?_
                exact hkj40 _ hw
              · have hw := hw.2 c39
                refine a_iload_5 (pc := 117) C dX1_bestAir_117 ?_
                refine a_goto (pc := 119) C 123 dX1_bestAir_119 (by decide) ?_
                exact hkj40 _ hw
            refine a_icmp_eq (pc := 90) C 109 dX1_bestAir_90 (by decide) (fun c36 => ?_) (fun c36 => ?_)
            · have hw := hw.1 c36
              refine a_iconst (pc := 109) C dX1_bestAir_109 ic_0 ?_
              exact hkj37 _ hw
            · have hw := hw.2 c36
              refine a_iload_3 (pc := 93) C dX1_bestAir_93 ?_
              refine a_iconst (pc := 94) C dX1_bestAir_94 ic_m1 ?_
              refine a_icmp_eq (pc := 95) C 105 dX1_bestAir_95 (by decide) (fun c45 => ?_) (fun c45 => ?_)
              · have hw := hw.1 c45
                refine a_iconst (pc := 105) C dX1_bestAir_105 ic_1 ?_
                refine a_goto (pc := 106) C 110 dX1_bestAir_106 (by decide) ?_
                exact hkj37 _ hw
              · have hw := hw.2 c45
                refine a_iload_7 (pc := 98) C dX1_bestAir_98 ?_
                refine a_iload_4 (pc := 100) C dX1_bestAir_100 ?_
                refine a_icmp_ge (pc := 102) C 109 dX1_bestAir_102 (by decide) (fun c46 => ?_) (fun c46 => ?_)
                · have hw := hw.1 c46
                  refine a_iconst (pc := 109) C dX1_bestAir_109 ic_0 ?_
                  exact hkj37 _ hw
                · have hw := hw.2 c46
                  refine a_iconst (pc := 105) C dX1_bestAir_105 ic_1 ?_
                  refine a_goto (pc := 106) C 110 dX1_bestAir_106 (by decide) ?_
                  exact hkj37 _ hw
    exact lp22 mF _ _ _ _ hw
  · exact ax_out C (fun x hx => (ht x hx).elim) (fun h n u hV => ⟨⟨k9, σx, rfl, hx, hV.1.same rfl rfl rfl, hV.2.2.2.2.2.1⟩, o_end hs hV⟩)
