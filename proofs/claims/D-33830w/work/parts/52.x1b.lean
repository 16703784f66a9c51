set_option maxRecDepth 100000
/-! WALKS IN THE WIDE WORLD: by program -/
def wp_X1_entries (a : Nat) (σ : OS) (Q : Int32 → OS → Prop) : Prop := (∃ r1 : Nat, oF σ a 0 0 (.ref r1) ∧ (∃ w2 : MS × List Int32, σ.2.1 r1 = some w2 ∧ ∀ b3 : Option Nat, (b3 = none ↔ w2.2 = []) → ∀ σ4 : OS, σ4 = oBk σ b3 w2.2 → ((b3 = none → (Q 0 σ4)) ∧ (∀ r5 : Nat, b3 = some r5 → (∃ r7 : Nat, oF σ4 a 0 0 (.ref r7) ∧ (∃ w8 : MS × List Int32, σ4.2.1 r7 = some w8 ∧ ∀ b9 : Option Nat, (b9 = none ↔ w8.2 = []) → ∀ σ10 : OS, σ10 = oBk σ4 b9 w8.2 → (∃ r11 : Nat, b9 = some r11 ∧ (∃ B12 : List Int32, (some r11, B12) ∈ σ10.2.2.2.2 ∧ B12 ≠ [] ∧ B12.length ≤ 12 ∧ (Q (Int32.ofNat B12.length) σ10)))))))))
theorem sg_X1_entries : aSig yX1_entries 0 := by decide +kernel
set_option maxHeartbeats 4000000 in
theorem ct_X1_entries (l : Launch) (G : aG) (a : Nat) (E : Nat → Prop) (σ : OS) (Q : Int32 → OS → Prop) (hw : wp_X1_entries a σ Q) (h0 : AH) (n0 u0 : Nat) (hB : OB h0 n0 E σ) : CT l yX1_entries (ws_ yX1_entries cX1_entries 1 (some .int)) 15 G [.ref a] h0 n0 u0 σ.2.2.1 (10 * σ.2.2.1) (o_pi Q h0 n0 u0 E σ.2.2.1) := by
  refine CT.intro [some (.ref a)] pn_RX1 rfl (Nat.le_of_ble_eq_true rfl) ?_
  intro p e s m args below meth c C hz hu
  have hs : s.heap.size = n0 ∧ slT s.heap = u0 := ⟨hz, hu⟩
  refine a_world (V1 := OW h0 n0 u0 E σ.2.2.1 σ) (OW.start hB) ?_
  unfold wp_X1_entries at hw
  refine a_aload_0 (pc := 0) C dX1_entries_0 ?_
  obtain ⟨r1, fr1, hw⟩ := hw
  refine a_getf (pc := 1) C (ref := "MaltDrums") in_X1 (ci := 0) rfl 0 (by decide) q299 rfl (fun h n u hV => o_fld fr1 hV) dX1_entries_1 ?_
  obtain ⟨w2, yw2, hw⟩ := hw
  refine o_hbookN (pc := 4) C yw2 q175 dX1_entries_4 (fun b3 ib3 σ4 eσ4 => ?_)
  have hw := hw b3 ib3 σ4 eσ4
  refine a_ifnonnullq (pc := 7) C 14 dX1_entries_7 (by decide) (fun r5 c6 => ?_) (fun c6 => ?_)
  · have hv9 := hw.2 r5 c6
    subst c6
    have hw := hv9
    refine a_aload_0 (pc := 14) C dX1_entries_14 ?_
    obtain ⟨r7, fr7, hw⟩ := hw
    refine a_getf (pc := 15) C (ref := "MaltDrums") in_X1 (ci := 0) rfl 0 (by decide) q299 rfl (fun h n u hV => o_fld fr7 hV) dX1_entries_15 ?_
    obtain ⟨w8, yw8, hw⟩ := hw
    refine o_hbookN (pc := 18) C yw8 q175 dX1_entries_18 (fun b9 ib9 σ10 eσ10 => ?_)
    have hw := hw b9 ib9 σ10 eσ10
    obtain ⟨r11, zr11, hv9⟩ := hw
    subst zr11
    have hw := hv9
    obtain ⟨B12, y1, y2, y3, hw⟩ := hw
    refine o_bkSize (pc := 21) C hs (st := []) y1 y2 y3 (by decide) q1165 (Nat.le_of_ble_eq_true rfl) dX1_entries_21 ?_
    exact a_iret C dX1_entries_24 (fun h n u hV => ⟨⟨(_, _), rfl, hw, hV⟩, o_end hs hV⟩)
  · have hv9 := hw.1 c6
    subst c6
    have hw := hv9
    refine a_iconst (pc := 10) C dX1_entries_10 ic_0 ?_
    refine a_goto (pc := 11) C 24 dX1_entries_11 (by decide) ?_
    exact a_iret C dX1_entries_24 (fun h n u hV => ⟨⟨(_, _), rfl, hw, hV⟩, o_end hs hV⟩)
def wp_X1_entryAt (a : Nat) (p1 : Int32) (σ : OS) (Q : Int32 → OS → Prop) (X : Nat → OS → Prop) : Prop := (oC σ a 0 ∧ wp_X1_entries a σ (fun v2 σ1 => (wp_X1_isWithin p1 0 (v2 - 1) (fun v3 => wp_X1_needThere v3 σ1 (fun σ4 => (∃ r5 : Nat, oF σ4 a 0 0 (.ref r5) ∧ (∃ w6 : MS × List Int32, σ4.2.1 r5 = some w6 ∧ ∀ b7 : Option Nat, (b7 = none ↔ w6.2 = []) → ∀ σ8 : OS, σ8 = oBk σ4 b7 w6.2 → (∃ r9 : Nat, b7 = some r9 ∧ (∃ B10 : List Int32, (some r9, B10) ∈ σ8.2.2.2.2 ∧ (¬ p1 < 0) ∧ p1.toNatClampNeg < B10.length ∧ B10.length ≤ 12 ∧ (Q (B10.getD p1.toNatClampNeg 0) σ8)))))) X))))
theorem sg_X1_entryAt : aSig yX1_entryAt 1 := by decide +kernel
set_option maxHeartbeats 4000000 in
theorem ct_X1_entryAt (l : Launch) (G : aG) (a : Nat) (p1 : Int32) (E : Nat → Prop) (σ : OS) (Q : Int32 → OS → Prop) (X : Nat → OS → Prop) (hw : wp_X1_entryAt a p1 σ Q X) (h0 : AH) (n0 u0 : Nat) (hB : OB h0 n0 E σ) : CTX l yX1_entryAt (ws_ yX1_entryAt cX1_entryAt 2 (some .int)) 16 G [.ref a, .int p1] h0 n0 u0 σ.2.2.1 (10 * σ.2.2.1) (o_pi Q h0 n0 u0 E σ.2.2.1) (o_px X h0 E) := by
  refine CTX.intro [some (.ref a), some (.int p1)] pn_RX1 rfl (Nat.le_of_ble_eq_true rfl) ?_
  intro p e s m args below meth c C hz hu ht
  have hs : s.heap.size = n0 ∧ slT s.heap = u0 := ⟨hz, hu⟩
  refine a_world (V1 := OW h0 n0 u0 E σ.2.2.1 σ) (OW.start hB) ?_
  unfold wp_X1_entryAt at hw
  refine a_iload_1 (pc := 0) C dX1_entryAt_0 ?_
  refine a_iconst (pc := 1) C dX1_entryAt_1 ic_0 ?_
  refine a_aload_0 (pc := 2) C dX1_entryAt_2 ?_
  refine o_callVi (pc := 3) C hs [] (b := a) (ci := 0) (st := [.int 0, .int p1]) (fun h n u hB => ct_X1_entries l G a E _ _ hw.2 h n u hB) (by decide) (by decide) rfl hw.1 q65 q1746 q1162 q1163 (lw_meth q1164) sg_X1_entries (Nat.le_of_ble_eq_true rfl) dX1_entryAt_3 (fun v2 σ1 hw => ?_)
  refine a_iconst (pc := 6) C dX1_entryAt_6 ic_1 ?_
  refine a_isub (pc := 7) C dX1_entryAt_7 ?_
  refine o_callSp (pc := 8) C hs [.int p1, .int 0, .int (v2 - 1)] (st := []) (fun h n u => ct_X1_isWithin l G _ _ _ _ hw h n u) (by decide) (by decide) (lw_S q1230 q856 q65 q857) sg_X1_isWithin (Nat.le_of_ble_eq_true rfl) dX1_entryAt_8 (fun v3 hw => ?_)
  refine o_callXSv (pc := 11) C hs [.int v3] (st := []) (fun h n u hB => ct_X1_needThere l G _ E _ _ _ hw h n u hB) (by decide) (by decide) (lw_S q1315 q1316 q65 q1317) sg_X1_needThere (Nat.le_of_ble_eq_true rfl) dX1_entryAt_11 (fun σ4 hw => ?_) (fun k9 σx hx => ?_)
  · refine a_aload_0 (pc := 14) C dX1_entryAt_14 ?_
    obtain ⟨r5, fr5, hw⟩ := hw
    refine a_getf (pc := 15) C (ref := "MaltDrums") in_X1 (ci := 0) rfl 0 (by decide) q299 rfl (fun h n u hV => o_fld fr5 hV) dX1_entryAt_15 ?_
    obtain ⟨w6, yw6, hw⟩ := hw
    refine o_hbookN (pc := 18) C yw6 q175 dX1_entryAt_18 (fun b7 ib7 σ8 eσ8 => ?_)
    have hw := hw b7 ib7 σ8 eσ8
    refine a_iload_1 (pc := 21) C dX1_entryAt_21 ?_
    obtain ⟨r9, zr9, hv9⟩ := hw
    subst zr9
    have hw := hv9
    obtain ⟨B10, y1, y2, y3, y4, hw⟩ := hw
    refine o_bkAt (pc := 22) C hs (st := []) y1 y2 y3 y4 (by decide) q1747 q1141 (Nat.le_of_ble_eq_true rfl) dX1_entryAt_22 dX1_entryAt_25 ?_
    exact a_xret (a_iret C dX1_entryAt_28 (fun h n u hV => ⟨⟨(_, _), rfl, hw, hV⟩, o_end hs hV⟩))
  · exact ax_out C (fun x hx => (ht x hx).elim) (fun h n u hV => ⟨⟨k9, σx, rfl, hx, hV.1.same rfl rfl rfl, hV.2.2.2.2.2.1⟩, o_end hs hV⟩)
