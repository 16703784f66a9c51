set_option maxRecDepth 100000
/-! WALKS IN THE WIDE WORLD: by program -/
theorem pn_RX0 : plainName RX0 = true := by decide
def wp_X0_add (p1 : Nat) (p2 : Int32) (p3 : Nat) (σ : OS) (Q : Int32 → OS → Prop) (X : Nat → OS → Prop) : Prop := (oC σ p1 0 ∧ wp_X1_add p1 p2 σ (fun v2 σ1 => (∃ (n4 : Nat) (f5 : Nat → Int64), σ1.1 p3 = some (.inl (1, n4, .inr (.inl f5))) ∧ vp_in 0 n4 ∧ ∀ σ3 : OS, σ3 = oPut σ1 p3 (.inl (1, n4, .inr (.inl (vp_updL f5 (0 : Int32).toNatClampNeg (v2.toInt64))))) → (Q 0 σ3))) (fun k9 σx => (k9 = 1 ∧ ∀ σ6 : OS, σ6 = oXs σx 0 → (Q 1 σ6)) ∨ (k9 = 2 ∧ ∀ σ8 : OS, σ8 = oXs σx 0 → (Q 2 σ8))))
theorem sg_X0_add : aSig yX0_add 3 := by decide +kernel
set_option maxHeartbeats 4000000 in
theorem ct_X0_add (l : Launch) (G : aG) (p1 : Nat) (p2 : Int32) (p3 : Nat) (E : Nat → Prop) (σ : OS) (Q : Int32 → OS → Prop) (X : Nat → OS → Prop) (hw : wp_X0_add p1 p2 p3 σ Q X) (h0 : AH) (n0 u0 : Nat) (hB : OB h0 n0 E σ) : CTX l yX0_add (wsW_ yX0_add cX0_add 4 (some .int) [(0, 9, 12, 13), (0, 9, 15, 15)]) 8 G [.ref p1, .int p2, .ref p3] h0 n0 u0 σ.2.2.1 (10 * σ.2.2.1) (o_pi Q h0 n0 u0 E σ.2.2.1) (o_px X h0 E) := by
  refine CTX.introW [some (.ref p1), some (.int p2), some (.ref p3), none] pn_RX0 rfl (Nat.le_of_ble_eq_true rfl) ?_
  intro p e s m args below meth c C hz hu ht
  have hs : s.heap.size = n0 ∧ slT s.heap = u0 := ⟨hz, hu⟩
  refine a_world (V1 := OW h0 n0 u0 E σ.2.2.1 σ) (OW.start hB) ?_
  unfold wp_X0_add at hw
  refine a_aload_2 (pc := 0) C dX0_add_0 ?_
  refine a_iconst (pc := 1) C dX0_add_1 ic_0 ?_
  refine a_aload_0 (pc := 2) C dX0_add_2 ?_
  refine a_iload_1 (pc := 3) C dX0_add_3 ?_
  refine o_callXVi (pc := 4) C hs [.int p2] (b := p1) (ci := 0) (st := [.int 0, .ref p3]) (fun h n u hB => ct_X1_add l G p1 _ E _ _ _ hw.2 h n u hB) (by decide) (by decide) rfl hw.1 q65 q1226 q1227 q1228 (lw_meth q1229) sg_X1_add (Nat.le_of_ble_eq_true rfl) dX0_add_4 (fun v2 σ1 hw => ?_) (fun k9 σx hx => ?_)
  · refine a_i2l (pc := 7) C dX0_add_7 ?_
    obtain ⟨n4, f5, af5, if5, hw⟩ := hw
    refine a_last (pc := 8) C (V1 := OW h0 n0 u0 E σ.2.2.1 (oPut σ1 p3 (.inl (1, n4, .inr (.inl (vp_updL f5 (0 : Int32).toNatClampNeg (v2.toInt64))))))) (fun h n u hV => ⟨o_arr af5 hV, hV.putA af5⟩) if5 dX0_add_8 (o_top (fun σ3 eσ3 => ?_))
    have hw := hw σ3 eσ3
    refine a_goto (pc := 9) C 18 dX0_add_9 (by decide) ?_
    refine a_iconst (pc := 18) C dX0_add_18 ic_0 ?_
    exact a_xret (a_iret C dX0_add_19 (fun h n u hV => ⟨⟨(_, _), rfl, hw, hV⟩, o_end hs hV⟩))
  · rcases hx with ⟨rfl, hw⟩ | ⟨rfl, hw⟩
    · refine ax_catch C (tableOf []) ⟨0, 9, 12, 13⟩ (tableOf [(0, 9, 15, 15)]) (ht.trans rfl) (fun z hz => nomatch hz) (by decide) (by decide) q1224 q515 (fun q7 => o_top (fun σ6 eσ6 => ?_))
      have hw := hw σ6 eσ6
      refine a_astore_3 (pc := 12) C dX0_add_12 (by decide) rfl ?_
      refine a_iconst (pc := 13) C dX0_add_13 ic_1 ?_
      exact a_xret (a_iret C dX0_add_14 (fun h n u hV => ⟨⟨(_, _), rfl, hw, hV⟩, o_end hs hV⟩))
    · refine ax_catch C (tableOf [(0, 9, 12, 13)]) ⟨0, 9, 15, 15⟩ (tableOf []) (ht.trans rfl) (by intro z hz; simp only [tableOf, List.map, List.mem_cons, List.not_mem_nil, or_false] at hz; subst hz; exact Or.inr ⟨by decide, _, q1224, by decide +kernel⟩) (by decide) (by decide) q1225 q1242 (fun q9 => o_top (fun σ8 eσ8 => ?_))
      have hw := hw σ8 eσ8
      refine a_astore_3 (pc := 15) C dX0_add_15 (by decide) rfl ?_
      refine a_iconst (pc := 16) C dX0_add_16 ic_2 ?_
      exact a_xret (a_iret C dX0_add_17 (fun h n u hV => ⟨⟨(_, _), rfl, hw, hV⟩, o_end hs hV⟩))
def wp_X0_steep (p1 : Nat) (p2 : Int32) (p3 : Nat) (σ : OS) (Q : Int32 → OS → Prop) (X : Nat → OS → Prop) : Prop := (oC σ p1 0 ∧ wp_X1_steep p1 p2 σ (fun v2 σ1 => (∃ (n4 : Nat) (f5 : Nat → Int64), σ1.1 p3 = some (.inl (1, n4, .inr (.inl f5))) ∧ vp_in 0 n4 ∧ ∀ σ3 : OS, σ3 = oPut σ1 p3 (.inl (1, n4, .inr (.inl (vp_updL f5 (0 : Int32).toNatClampNeg (v2.toInt64))))) → (Q 0 σ3))) (fun k9 σx => (k9 = 0 ∧ ∀ σ6 : OS, σ6 = oXs σx 0 → (Q 1 σ6)) ∨ (k9 = 2 ∧ ∀ σ8 : OS, σ8 = oXs σx 0 → (Q 2 σ8))))
theorem sg_X0_steep : aSig yX0_steep 3 := by decide +kernel
set_option maxHeartbeats 4000000 in
theorem ct_X0_steep (l : Launch) (G : aG) (p1 : Nat) (p2 : Int32) (p3 : Nat) (E : Nat → Prop) (σ : OS) (Q : Int32 → OS → Prop) (X : Nat → OS → Prop) (hw : wp_X0_steep p1 p2 p3 σ Q X) (h0 : AH) (n0 u0 : Nat) (hB : OB h0 n0 E σ) : CTX l yX0_steep (wsW_ yX0_steep cX0_steep 4 (some .int) [(0, 9, 12, 20), (0, 9, 15, 15)]) 20 G [.ref p1, .int p2, .ref p3] h0 n0 u0 σ.2.2.1 (10 * σ.2.2.1) (o_pi Q h0 n0 u0 E σ.2.2.1) (o_px X h0 E) := by
  refine CTX.introW [some (.ref p1), some (.int p2), some (.ref p3), none] pn_RX0 rfl (Nat.le_of_ble_eq_true rfl) ?_
  intro p e s m args below meth c C hz hu ht
  have hs : s.heap.size = n0 ∧ slT s.heap = u0 := ⟨hz, hu⟩
  refine a_world (V1 := OW h0 n0 u0 E σ.2.2.1 σ) (OW.start hB) ?_
  unfold wp_X0_steep at hw
  refine a_aload_2 (pc := 0) C dX0_steep_0 ?_
  refine a_iconst (pc := 1) C dX0_steep_1 ic_0 ?_
  refine a_aload_0 (pc := 2) C dX0_steep_2 ?_
  refine a_iload_1 (pc := 3) C dX0_steep_3 ?_
  refine o_callXVi (pc := 4) C hs [.int p2] (b := p1) (ci := 0) (st := [.int 0, .ref p3]) (fun h n u hB => ct_X1_steep l G p1 _ E _ _ _ hw.2 h n u hB) (by decide) (by decide) rfl hw.1 q65 q1303 q1304 q1305 (lw_meth q1306) sg_X1_steep (Nat.le_of_ble_eq_true rfl) dX0_steep_4 (fun v2 σ1 hw => ?_) (fun k9 σx hx => ?_)
  · refine a_i2l (pc := 7) C dX0_steep_7 ?_
    obtain ⟨n4, f5, af5, if5, hw⟩ := hw
    refine a_last (pc := 8) C (V1 := OW h0 n0 u0 E σ.2.2.1 (oPut σ1 p3 (.inl (1, n4, .inr (.inl (vp_updL f5 (0 : Int32).toNatClampNeg (v2.toInt64))))))) (fun h n u hV => ⟨o_arr af5 hV, hV.putA af5⟩) if5 dX0_steep_8 (o_top (fun σ3 eσ3 => ?_))
    have hw := hw σ3 eσ3
    refine a_goto (pc := 9) C 18 dX0_steep_9 (by decide) ?_
    refine a_iconst (pc := 18) C dX0_steep_18 ic_0 ?_
    exact a_xret (a_iret C dX0_steep_19 (fun h n u hV => ⟨⟨(_, _), rfl, hw, hV⟩, o_end hs hV⟩))
  · rcases hx with ⟨rfl, hw⟩ | ⟨rfl, hw⟩
    · refine ax_catch C (tableOf []) ⟨0, 9, 12, 20⟩ (tableOf [(0, 9, 15, 15)]) (ht.trans rfl) (fun z hz => nomatch hz) (by decide) (by decide) q1300 q1320 (fun q7 => o_top (fun σ6 eσ6 => ?_))
      have hw := hw σ6 eσ6
      refine a_astore_3 (pc := 12) C dX0_steep_12 (by decide) rfl ?_
      refine a_iconst (pc := 13) C dX0_steep_13 ic_1 ?_
      exact a_xret (a_iret C dX0_steep_14 (fun h n u hV => ⟨⟨(_, _), rfl, hw, hV⟩, o_end hs hV⟩))
    · refine ax_catch C (tableOf [(0, 9, 12, 20)]) ⟨0, 9, 15, 15⟩ (tableOf []) (ht.trans rfl) (by intro z hz; simp only [tableOf, List.map, List.mem_cons, List.not_mem_nil, or_false] at hz; subst hz; exact Or.inr ⟨by decide, _, q1300, by decide +kernel⟩) (by decide) (by decide) q1225 q1242 (fun q9 => o_top (fun σ8 eσ8 => ?_))
      have hw := hw σ8 eσ8
      refine a_astore_3 (pc := 15) C dX0_steep_15 (by decide) rfl ?_
      refine a_iconst (pc := 16) C dX0_steep_16 ic_2 ?_
      exact a_xret (a_iret C dX0_steep_17 (fun h n u hV => ⟨⟨(_, _), rfl, hw, hV⟩, o_end hs hV⟩))
def wp_X0_toDrum (p1 : Nat) (p2 : Int32) (p3 : Int32) (p4 : Nat) (σ : OS) (Q : Int32 → OS → Prop) (X : Nat → OS → Prop) : Prop := (oC σ p1 0 ∧ wp_X1_toDrum p1 p2 p3 σ (fun v2 σ1 => (∃ (n4 : Nat) (f5 : Nat → Int64), σ1.1 p4 = some (.inl (1, n4, .inr (.inl f5))) ∧ vp_in 0 n4 ∧ ∀ σ3 : OS, σ3 = oPut σ1 p4 (.inl (1, n4, .inr (.inl (vp_updL f5 (0 : Int32).toNatClampNeg (v2.toInt64))))) → (Q 0 σ3))) (fun k9 σx => (k9 = 0 ∧ ∀ σ6 : OS, σ6 = oXs σx 0 → (Q 1 σ6)) ∨ (k9 = 2 ∧ ∀ σ8 : OS, σ8 = oXs σx 0 → (Q 2 σ8))))
theorem sg_X0_toDrum : aSig yX0_toDrum 4 := by decide +kernel
set_option maxHeartbeats 4000000 in
theorem ct_X0_toDrum (l : Launch) (G : aG) (p1 : Nat) (p2 : Int32) (p3 : Int32) (p4 : Nat) (E : Nat → Prop) (σ : OS) (Q : Int32 → OS → Prop) (X : Nat → OS → Prop) (hw : wp_X0_toDrum p1 p2 p3 p4 σ Q X) (h0 : AH) (n0 u0 : Nat) (hB : OB h0 n0 E σ) : CTX l yX0_toDrum (wsW_ yX0_toDrum cX0_toDrum 5 (some .int) [(0, 10, 13, 20), (0, 10, 17, 15)]) 20 G [.ref p1, .int p2, .int p3, .ref p4] h0 n0 u0 σ.2.2.1 (10 * σ.2.2.1) (o_pi Q h0 n0 u0 E σ.2.2.1) (o_px X h0 E) := by
  refine CTX.introW [some (.ref p1), some (.int p2), some (.int p3), some (.ref p4), none] pn_RX0 rfl (Nat.le_of_ble_eq_true rfl) ?_
  intro p e s m args below meth c C hz hu ht
  have hs : s.heap.size = n0 ∧ slT s.heap = u0 := ⟨hz, hu⟩
  refine a_world (V1 := OW h0 n0 u0 E σ.2.2.1 σ) (OW.start hB) ?_
  unfold wp_X0_toDrum at hw
  refine a_aload_3 (pc := 0) C dX0_toDrum_0 ?_
  refine a_iconst (pc := 1) C dX0_toDrum_1 ic_0 ?_
  refine a_aload_0 (pc := 2) C dX0_toDrum_2 ?_
  refine a_iload_1 (pc := 3) C dX0_toDrum_3 ?_
  refine a_iload_2 (pc := 4) C dX0_toDrum_4 ?_
  refine o_callXVi (pc := 5) C hs [.int p2, .int p3] (b := p1) (ci := 0) (st := [.int 0, .ref p4]) (fun h n u hB => ct_X1_toDrum l G p1 _ _ E _ _ _ hw.2 h n u hB) (by decide) (by decide) rfl hw.1 q65 q1344 q1345 q1346 (lw_meth q1347) sg_X1_toDrum (Nat.le_of_ble_eq_true rfl) dX0_toDrum_5 (fun v2 σ1 hw => ?_) (fun k9 σx hx => ?_)
  · refine a_i2l (pc := 8) C dX0_toDrum_8 ?_
    obtain ⟨n4, f5, af5, if5, hw⟩ := hw
    refine a_last (pc := 9) C (V1 := OW h0 n0 u0 E σ.2.2.1 (oPut σ1 p4 (.inl (1, n4, .inr (.inl (vp_updL f5 (0 : Int32).toNatClampNeg (v2.toInt64))))))) (fun h n u hV => ⟨o_arr af5 hV, hV.putA af5⟩) if5 dX0_toDrum_9 (o_top (fun σ3 eσ3 => ?_))
    have hw := hw σ3 eσ3
    refine a_goto (pc := 10) C 21 dX0_toDrum_10 (by decide) ?_
    refine a_iconst (pc := 21) C dX0_toDrum_21 ic_0 ?_
    exact a_xret (a_iret C dX0_toDrum_22 (fun h n u hV => ⟨⟨(_, _), rfl, hw, hV⟩, o_end hs hV⟩))
  · rcases hx with ⟨rfl, hw⟩ | ⟨rfl, hw⟩
    · refine ax_catch C (tableOf []) ⟨0, 10, 13, 20⟩ (tableOf [(0, 10, 17, 15)]) (ht.trans rfl) (fun z hz => nomatch hz) (by decide) (by decide) q1300 q1320 (fun q7 => o_top (fun σ6 eσ6 => ?_))
      have hw := hw σ6 eσ6
      refine a_astore_4 (pc := 13) C dX0_toDrum_13 (by decide) rfl ?_
      refine a_iconst (pc := 15) C dX0_toDrum_15 ic_1 ?_
      exact a_xret (a_iret C dX0_toDrum_16 (fun h n u hV => ⟨⟨(_, _), rfl, hw, hV⟩, o_end hs hV⟩))
    · refine ax_catch C (tableOf [(0, 10, 13, 20)]) ⟨0, 10, 17, 15⟩ (tableOf []) (ht.trans rfl) (by intro z hz; simp only [tableOf, List.map, List.mem_cons, List.not_mem_nil, or_false] at hz; subst hz; exact Or.inr ⟨by decide, _, q1300, by decide +kernel⟩) (by decide) (by decide) q1225 q1242 (fun q9 => o_top (fun σ8 eσ8 => ?_))
      have hw := hw σ8 eσ8
      refine a_astore_4 (pc := 17) C dX0_toDrum_17 (by decide) rfl ?_
      refine a_iconst (pc := 19) C dX0_toDrum_19 ic_2 ?_
      exact a_xret (a_iret C dX0_toDrum_20 (fun h n u hV => ⟨⟨(_, _), rfl, hw, hV⟩, o_end hs hV⟩))
def wp_X0_toHeap (p1 : Nat) (p2 : Int32) (p3 : Nat) (σ : OS) (Q : Int32 → OS → Prop) (X : Nat → OS → Prop) : Prop := (oC σ p1 0 ∧ wp_X1_toHeap p1 p2 σ (fun v2 σ1 => (∃ (n4 : Nat) (f5 : Nat → Int64), σ1.1 p3 = some (.inl (1, n4, .inr (.inl f5))) ∧ vp_in 0 n4 ∧ ∀ σ3 : OS, σ3 = oPut σ1 p3 (.inl (1, n4, .inr (.inl (vp_updL f5 (0 : Int32).toNatClampNeg (v2.toInt64))))) → (Q 0 σ3))) (fun k9 σx => (k9 = 0 ∧ ∀ σ6 : OS, σ6 = oXs σx 0 → (Q 1 σ6)) ∨ (k9 = 2 ∧ ∀ σ8 : OS, σ8 = oXs σx 0 → (Q 2 σ8))))
theorem sg_X0_toHeap : aSig yX0_toHeap 3 := by decide +kernel
set_option maxHeartbeats 4000000 in
theorem ct_X0_toHeap (l : Launch) (G : aG) (p1 : Nat) (p2 : Int32) (p3 : Nat) (E : Nat → Prop) (σ : OS) (Q : Int32 → OS → Prop) (X : Nat → OS → Prop) (hw : wp_X0_toHeap p1 p2 p3 σ Q X) (h0 : AH) (n0 u0 : Nat) (hB : OB h0 n0 E σ) : CTX l yX0_toHeap (wsW_ yX0_toHeap cX0_toHeap 4 (some .int) [(0, 9, 12, 20), (0, 9, 15, 15)]) 20 G [.ref p1, .int p2, .ref p3] h0 n0 u0 σ.2.2.1 (10 * σ.2.2.1) (o_pi Q h0 n0 u0 E σ.2.2.1) (o_px X h0 E) := by
  refine CTX.introW [some (.ref p1), some (.int p2), some (.ref p3), none] pn_RX0 rfl (Nat.le_of_ble_eq_true rfl) ?_
  intro p e s m args below meth c C hz hu ht
  have hs : s.heap.size = n0 ∧ slT s.heap = u0 := ⟨hz, hu⟩
  refine a_world (V1 := OW h0 n0 u0 E σ.2.2.1 σ) (OW.start hB) ?_
  unfold wp_X0_toHeap at hw
  refine a_aload_2 (pc := 0) C dX0_toHeap_0 ?_
  refine a_iconst (pc := 1) C dX0_toHeap_1 ic_0 ?_
  refine a_aload_0 (pc := 2) C dX0_toHeap_2 ?_
  refine a_iload_1 (pc := 3) C dX0_toHeap_3 ?_
  refine o_callXVi (pc := 4) C hs [.int p2] (b := p1) (ci := 0) (st := [.int 0, .ref p3]) (fun h n u hB => ct_X1_toHeap l G p1 _ E _ _ _ hw.2 h n u hB) (by decide) (by decide) rfl hw.1 q65 q1362 q1363 q1364 (lw_meth q1365) sg_X1_toHeap (Nat.le_of_ble_eq_true rfl) dX0_toHeap_4 (fun v2 σ1 hw => ?_) (fun k9 σx hx => ?_)
  · refine a_i2l (pc := 7) C dX0_toHeap_7 ?_
    obtain ⟨n4, f5, af5, if5, hw⟩ := hw
    refine a_last (pc := 8) C (V1 := OW h0 n0 u0 E σ.2.2.1 (oPut σ1 p3 (.inl (1, n4, .inr (.inl (vp_updL f5 (0 : Int32).toNatClampNeg (v2.toInt64))))))) (fun h n u hV => ⟨o_arr af5 hV, hV.putA af5⟩) if5 dX0_toHeap_8 (o_top (fun σ3 eσ3 => ?_))
    have hw := hw σ3 eσ3
    refine a_goto (pc := 9) C 18 dX0_toHeap_9 (by decide) ?_
    refine a_iconst (pc := 18) C dX0_toHeap_18 ic_0 ?_
    exact a_xret (a_iret C dX0_toHeap_19 (fun h n u hV => ⟨⟨(_, _), rfl, hw, hV⟩, o_end hs hV⟩))
  · rcases hx with ⟨rfl, hw⟩ | ⟨rfl, hw⟩
    · refine ax_catch C (tableOf []) ⟨0, 9, 12, 20⟩ (tableOf [(0, 9, 15, 15)]) (ht.trans rfl) (fun z hz => nomatch hz) (by decide) (by decide) q1300 q1320 (fun q7 => o_top (fun σ6 eσ6 => ?_))
      have hw := hw σ6 eσ6
      refine a_astore_3 (pc := 12) C dX0_toHeap_12 (by decide) rfl ?_
      refine a_iconst (pc := 13) C dX0_toHeap_13 ic_1 ?_
      exact a_xret (a_iret C dX0_toHeap_14 (fun h n u hV => ⟨⟨(_, _), rfl, hw, hV⟩, o_end hs hV⟩))
    · refine ax_catch C (tableOf [(0, 9, 12, 20)]) ⟨0, 9, 15, 15⟩ (tableOf []) (ht.trans rfl) (by intro z hz; simp only [tableOf, List.map, List.mem_cons, List.not_mem_nil, or_false] at hz; subst hz; exact Or.inr ⟨by decide, _, q1300, by decide +kernel⟩) (by decide) (by decide) q1225 q1242 (fun q9 => o_top (fun σ8 eσ8 => ?_))
      have hw := hw σ8 eσ8
      refine a_astore_3 (pc := 15) C dX0_toHeap_15 (by decide) rfl ?_
      refine a_iconst (pc := 16) C dX0_toHeap_16 ic_2 ?_
      exact a_xret (a_iret C dX0_toHeap_17 (fun h n u hV => ⟨⟨(_, _), rfl, hw, hV⟩, o_end hs hV⟩))
def wp_X0_load (p1 : Nat) (p2 : Int32) (p3 : Nat) (σ : OS) (Q : Int32 → OS → Prop) (X : Nat → OS → Prop) : Prop := (oC σ p1 0 ∧ wp_X1_load p1 p2 σ (fun v2 σ1 => (∃ (n4 : Nat) (f5 : Nat → Int64), σ1.1 p3 = some (.inl (1, n4, .inr (.inl f5))) ∧ vp_in 0 n4 ∧ ∀ σ3 : OS, σ3 = oPut σ1 p3 (.inl (1, n4, .inr (.inl (vp_updL f5 (0 : Int32).toNatClampNeg (v2.toInt64))))) → (Q 0 σ3))) (fun k9 σx => (k9 = 0 ∧ ∀ σ6 : OS, σ6 = oXs σx 0 → (Q 1 σ6)) ∨ (k9 = 2 ∧ ∀ σ8 : OS, σ8 = oXs σx 0 → (Q 2 σ8))))
theorem sg_X0_load : aSig yX0_load 3 := by decide +kernel
set_option maxHeartbeats 4000000 in
theorem ct_X0_load (l : Launch) (G : aG) (p1 : Nat) (p2 : Int32) (p3 : Nat) (E : Nat → Prop) (σ : OS) (Q : Int32 → OS → Prop) (X : Nat → OS → Prop) (hw : wp_X0_load p1 p2 p3 σ Q X) (h0 : AH) (n0 u0 : Nat) (hB : OB h0 n0 E σ) : CTX l yX0_load (wsW_ yX0_load cX0_load 4 (some .int) [(0, 9, 12, 20), (0, 9, 15, 15)]) 20 G [.ref p1, .int p2, .ref p3] h0 n0 u0 σ.2.2.1 (10 * σ.2.2.1) (o_pi Q h0 n0 u0 E σ.2.2.1) (o_px X h0 E) := by
  refine CTX.introW [some (.ref p1), some (.int p2), some (.ref p3), none] pn_RX0 rfl (Nat.le_of_ble_eq_true rfl) ?_
  intro p e s m args below meth c C hz hu ht
  have hs : s.heap.size = n0 ∧ slT s.heap = u0 := ⟨hz, hu⟩
  refine a_world (V1 := OW h0 n0 u0 E σ.2.2.1 σ) (OW.start hB) ?_
  unfold wp_X0_load at hw
  refine a_aload_2 (pc := 0) C dX0_load_0 ?_
  refine a_iconst (pc := 1) C dX0_load_1 ic_0 ?_
  refine a_aload_0 (pc := 2) C dX0_load_2 ?_
  refine a_iload_1 (pc := 3) C dX0_load_3 ?_
  refine o_callXVi (pc := 4) C hs [.int p2] (b := p1) (ci := 0) (st := [.int 0, .ref p3]) (fun h n u hB => ct_X1_load l G p1 _ E _ _ _ hw.2 h n u hB) (by decide) (by decide) rfl hw.1 q65 q1377 q1378 q1379 (lw_meth q1380) sg_X1_load (Nat.le_of_ble_eq_true rfl) dX0_load_4 (fun v2 σ1 hw => ?_) (fun k9 σx hx => ?_)
  · refine a_i2l (pc := 7) C dX0_load_7 ?_
    obtain ⟨n4, f5, af5, if5, hw⟩ := hw
    refine a_last (pc := 8) C (V1 := OW h0 n0 u0 E σ.2.2.1 (oPut σ1 p3 (.inl (1, n4, .inr (.inl (vp_updL f5 (0 : Int32).toNatClampNeg (v2.toInt64))))))) (fun h n u hV => ⟨o_arr af5 hV, hV.putA af5⟩) if5 dX0_load_8 (o_top (fun σ3 eσ3 => ?_))
    have hw := hw σ3 eσ3
    refine a_goto (pc := 9) C 18 dX0_load_9 (by decide) ?_
    refine a_iconst (pc := 18) C dX0_load_18 ic_0 ?_
    exact a_xret (a_iret C dX0_load_19 (fun h n u hV => ⟨⟨(_, _), rfl, hw, hV⟩, o_end hs hV⟩))
  · rcases hx with ⟨rfl, hw⟩ | ⟨rfl, hw⟩
    · refine ax_catch C (tableOf []) ⟨0, 9, 12, 20⟩ (tableOf [(0, 9, 15, 15)]) (ht.trans rfl) (fun z hz => nomatch hz) (by decide) (by decide) q1300 q1320 (fun q7 => o_top (fun σ6 eσ6 => ?_))
      have hw := hw σ6 eσ6
      refine a_astore_3 (pc := 12) C dX0_load_12 (by decide) rfl ?_
      refine a_iconst (pc := 13) C dX0_load_13 ic_1 ?_
      exact a_xret (a_iret C dX0_load_14 (fun h n u hV => ⟨⟨(_, _), rfl, hw, hV⟩, o_end hs hV⟩))
    · refine ax_catch C (tableOf [(0, 9, 12, 20)]) ⟨0, 9, 15, 15⟩ (tableOf []) (ht.trans rfl) (by intro z hz; simp only [tableOf, List.map, List.mem_cons, List.not_mem_nil, or_false] at hz; subst hz; exact Or.inr ⟨by decide, _, q1300, by decide +kernel⟩) (by decide) (by decide) q1225 q1242 (fun q9 => o_top (fun σ8 eσ8 => ?_))
      have hw := hw σ8 eσ8
      refine a_astore_3 (pc := 15) C dX0_load_15 (by decide) rfl ?_
      refine a_iconst (pc := 16) C dX0_load_16 ic_2 ?_
      exact a_xret (a_iret C dX0_load_17 (fun h n u hV => ⟨⟨(_, _), rfl, hw, hV⟩, o_end hs hV⟩))
def wp_X0_light (p1 : Nat) (p2 : Nat) (σ : OS) (Q : Int32 → OS → Prop) (X : Nat → OS → Prop) : Prop := (oC σ p1 0 ∧ wp_X1_light p1 σ (fun v2 σ1 => (∃ (n4 : Nat) (f5 : Nat → Int64), σ1.1 p2 = some (.inl (1, n4, .inr (.inl f5))) ∧ vp_in 0 n4 ∧ ∀ σ3 : OS, σ3 = oPut σ1 p2 (.inl (1, n4, .inr (.inl (vp_updL f5 (0 : Int32).toNatClampNeg (v2.toInt64))))) → (Q 0 σ3))) (fun k9 σx => (k9 = 2 ∧ ∀ σ6 : OS, σ6 = oXs σx 0 → (Q 1 σ6))))
theorem sg_X0_light : aSig yX0_light 2 := by decide +kernel
set_option maxHeartbeats 4000000 in
theorem ct_X0_light (l : Launch) (G : aG) (p1 : Nat) (p2 : Nat) (E : Nat → Prop) (σ : OS) (Q : Int32 → OS → Prop) (X : Nat → OS → Prop) (hw : wp_X0_light p1 p2 σ Q X) (h0 : AH) (n0 u0 : Nat) (hB : OB h0 n0 E σ) : CTX l yX0_light (wsW_ yX0_light cX0_light 3 (some .int) [(0, 8, 11, 15)]) 8 G [.ref p1, .ref p2] h0 n0 u0 σ.2.2.1 (10 * σ.2.2.1) (o_pi Q h0 n0 u0 E σ.2.2.1) (o_px X h0 E) := by
  refine CTX.introW [some (.ref p1), some (.ref p2), none] pn_RX0 rfl (Nat.le_of_ble_eq_true rfl) ?_
  intro p e s m args below meth c C hz hu ht
  have hs : s.heap.size = n0 ∧ slT s.heap = u0 := ⟨hz, hu⟩
  refine a_world (V1 := OW h0 n0 u0 E σ.2.2.1 σ) (OW.start hB) ?_
  unfold wp_X0_light at hw
  refine a_aload_1 (pc := 0) C dX0_light_0 ?_
  refine a_iconst (pc := 1) C dX0_light_1 ic_0 ?_
  refine a_aload_0 (pc := 2) C dX0_light_2 ?_
  refine o_callXVi (pc := 3) C hs [] (b := p1) (ci := 0) (st := [.int 0, .ref p2]) (fun h n u hB => ct_X1_light l G p1 E _ _ _ hw.2 h n u hB) (by decide) (by decide) rfl hw.1 q65 q1393 q1394 q1395 (lw_meth q1396) sg_X1_light (Nat.le_of_ble_eq_true rfl) dX0_light_3 (fun v2 σ1 hw => ?_) (fun k9 σx hx => ?_)
  · refine a_i2l (pc := 6) C dX0_light_6 ?_
    obtain ⟨n4, f5, af5, if5, hw⟩ := hw
    refine a_last (pc := 7) C (V1 := OW h0 n0 u0 E σ.2.2.1 (oPut σ1 p2 (.inl (1, n4, .inr (.inl (vp_updL f5 (0 : Int32).toNatClampNeg (v2.toInt64))))))) (fun h n u hV => ⟨o_arr af5 hV, hV.putA af5⟩) if5 dX0_light_7 (o_top (fun σ3 eσ3 => ?_))
    have hw := hw σ3 eσ3
    refine a_goto (pc := 8) C 14 dX0_light_8 (by decide) ?_
    refine a_iconst (pc := 14) C dX0_light_14 ic_0 ?_
    exact a_xret (a_iret C dX0_light_15 (fun h n u hV => ⟨⟨(_, _), rfl, hw, hV⟩, o_end hs hV⟩))
  · rcases hx with ⟨rfl, hw⟩
    · refine ax_catch C (tableOf []) ⟨0, 8, 11, 15⟩ (tableOf []) (ht.trans rfl) (fun z hz => nomatch hz) (by decide) (by decide) q1225 q1242 (fun q7 => o_top (fun σ6 eσ6 => ?_))
      have hw := hw σ6 eσ6
      refine a_astore_2 (pc := 11) C dX0_light_11 (by decide) rfl ?_
      refine a_iconst (pc := 12) C dX0_light_12 ic_1 ?_
      exact a_xret (a_iret C dX0_light_13 (fun h n u hV => ⟨⟨(_, _), rfl, hw, hV⟩, o_end hs hV⟩))
def wp_X0_spray (p1 : Nat) (p2 : Int32) (p3 : Nat) (σ : OS) (Q : Int32 → OS → Prop) (X : Nat → OS → Prop) : Prop := (oC σ p1 0 ∧ wp_X1_spray p1 p2 σ (fun v2 σ1 => (∃ (n4 : Nat) (f5 : Nat → Int64), σ1.1 p3 = some (.inl (1, n4, .inr (.inl f5))) ∧ vp_in 0 n4 ∧ ∀ σ3 : OS, σ3 = oPut σ1 p3 (.inl (1, n4, .inr (.inl (vp_updL f5 (0 : Int32).toNatClampNeg (v2.toInt64))))) → (Q 0 σ3))) (fun k9 σx => (k9 = 0 ∧ ∀ σ6 : OS, σ6 = oXs σx 0 → (Q 1 σ6)) ∨ (k9 = 2 ∧ ∀ σ8 : OS, σ8 = oXs σx 0 → (Q 2 σ8))))
theorem sg_X0_spray : aSig yX0_spray 3 := by decide +kernel
set_option maxHeartbeats 4000000 in
theorem ct_X0_spray (l : Launch) (G : aG) (p1 : Nat) (p2 : Int32) (p3 : Nat) (E : Nat → Prop) (σ : OS) (Q : Int32 → OS → Prop) (X : Nat → OS → Prop) (hw : wp_X0_spray p1 p2 p3 σ Q X) (h0 : AH) (n0 u0 : Nat) (hB : OB h0 n0 E σ) : CTX l yX0_spray (wsW_ yX0_spray cX0_spray 4 (some .int) [(0, 9, 12, 20), (0, 9, 15, 15)]) 19 G [.ref p1, .int p2, .ref p3] h0 n0 u0 σ.2.2.1 (10 * σ.2.2.1) (o_pi Q h0 n0 u0 E σ.2.2.1) (o_px X h0 E) := by
  refine CTX.introW [some (.ref p1), some (.int p2), some (.ref p3), none] pn_RX0 rfl (Nat.le_of_ble_eq_true rfl) ?_
  intro p e s m args below meth c C hz hu ht
  have hs : s.heap.size = n0 ∧ slT s.heap = u0 := ⟨hz, hu⟩
  refine a_world (V1 := OW h0 n0 u0 E σ.2.2.1 σ) (OW.start hB) ?_
  unfold wp_X0_spray at hw
  refine a_aload_2 (pc := 0) C dX0_spray_0 ?_
  refine a_iconst (pc := 1) C dX0_spray_1 ic_0 ?_
  refine a_aload_0 (pc := 2) C dX0_spray_2 ?_
  refine a_iload_1 (pc := 3) C dX0_spray_3 ?_
  refine o_callXVi (pc := 4) C hs [.int p2] (b := p1) (ci := 0) (st := [.int 0, .ref p3]) (fun h n u hB => ct_X1_spray l G p1 _ E _ _ _ hw.2 h n u hB) (by decide) (by decide) rfl hw.1 q65 q1408 q1409 q1410 (lw_meth q1411) sg_X1_spray (Nat.le_of_ble_eq_true rfl) dX0_spray_4 (fun v2 σ1 hw => ?_) (fun k9 σx hx => ?_)
  · refine a_i2l (pc := 7) C dX0_spray_7 ?_
    obtain ⟨n4, f5, af5, if5, hw⟩ := hw
    refine a_last (pc := 8) C (V1 := OW h0 n0 u0 E σ.2.2.1 (oPut σ1 p3 (.inl (1, n4, .inr (.inl (vp_updL f5 (0 : Int32).toNatClampNeg (v2.toInt64))))))) (fun h n u hV => ⟨o_arr af5 hV, hV.putA af5⟩) if5 dX0_spray_8 (o_top (fun σ3 eσ3 => ?_))
    have hw := hw σ3 eσ3
    refine a_goto (pc := 9) C 18 dX0_spray_9 (by decide) ?_
    refine a_iconst (pc := 18) C dX0_spray_18 ic_0 ?_
    exact a_xret (a_iret C dX0_spray_19 (fun h n u hV => ⟨⟨(_, _), rfl, hw, hV⟩, o_end hs hV⟩))
  · rcases hx with ⟨rfl, hw⟩ | ⟨rfl, hw⟩
    · refine ax_catch C (tableOf []) ⟨0, 9, 12, 20⟩ (tableOf [(0, 9, 15, 15)]) (ht.trans rfl) (fun z hz => nomatch hz) (by decide) (by decide) q1300 q1320 (fun q7 => o_top (fun σ6 eσ6 => ?_))
      have hw := hw σ6 eσ6
      refine a_astore_3 (pc := 12) C dX0_spray_12 (by decide) rfl ?_
      refine a_iconst (pc := 13) C dX0_spray_13 ic_1 ?_
      exact a_xret (a_iret C dX0_spray_14 (fun h n u hV => ⟨⟨(_, _), rfl, hw, hV⟩, o_end hs hV⟩))
    · refine ax_catch C (tableOf [(0, 9, 12, 20)]) ⟨0, 9, 15, 15⟩ (tableOf []) (ht.trans rfl) (by intro z hz; simp only [tableOf, List.map, List.mem_cons, List.not_mem_nil, or_false] at hz; subst hz; exact Or.inr ⟨by decide, _, q1300, by decide +kernel⟩) (by decide) (by decide) q1225 q1242 (fun q9 => o_top (fun σ8 eσ8 => ?_))
      have hw := hw σ8 eσ8
      refine a_astore_3 (pc := 15) C dX0_spray_15 (by decide) rfl ?_
      refine a_iconst (pc := 16) C dX0_spray_16 ic_2 ?_
      exact a_xret (a_iret C dX0_spray_17 (fun h n u hV => ⟨⟨(_, _), rfl, hw, hV⟩, o_end hs hV⟩))
def wp_X0_setAir (p1 : Nat) (p2 : Int32) (p3 : Int32) (p4 : Nat) (σ : OS) (Q : Int32 → OS → Prop) (X : Nat → OS → Prop) : Prop := (oC σ p1 0 ∧ wp_X1_setAir p1 p2 p3 σ (fun v2 σ1 => (∃ (n4 : Nat) (f5 : Nat → Int64), σ1.1 p4 = some (.inl (1, n4, .inr (.inl f5))) ∧ vp_in 0 n4 ∧ ∀ σ3 : OS, σ3 = oPut σ1 p4 (.inl (1, n4, .inr (.inl (vp_updL f5 (0 : Int32).toNatClampNeg (v2.toInt64))))) → (Q 0 σ3))) (fun k9 σx => (k9 = 0 ∧ ∀ σ6 : OS, σ6 = oXs σx 0 → (Q 1 σ6)) ∨ (k9 = 1 ∧ ∀ σ8 : OS, σ8 = oXs σx 0 → (Q 2 σ8))))
theorem sg_X0_setAir : aSig yX0_setAir 4 := by decide +kernel
set_option maxHeartbeats 4000000 in
theorem ct_X0_setAir (l : Launch) (G : aG) (p1 : Nat) (p2 : Int32) (p3 : Int32) (p4 : Nat) (E : Nat → Prop) (σ : OS) (Q : Int32 → OS → Prop) (X : Nat → OS → Prop) (hw : wp_X0_setAir p1 p2 p3 p4 σ Q X) (h0 : AH) (n0 u0 : Nat) (hB : OB h0 n0 E σ) : CTX l yX0_setAir (wsW_ yX0_setAir cX0_setAir 5 (some .int) [(0, 10, 13, 20), (0, 10, 17, 13)]) 9 G [.ref p1, .int p2, .int p3, .ref p4] h0 n0 u0 σ.2.2.1 (10 * σ.2.2.1) (o_pi Q h0 n0 u0 E σ.2.2.1) (o_px X h0 E) := by
  refine CTX.introW [some (.ref p1), some (.int p2), some (.int p3), some (.ref p4), none] pn_RX0 rfl (Nat.le_of_ble_eq_true rfl) ?_
  intro p e s m args below meth c C hz hu ht
  have hs : s.heap.size = n0 ∧ slT s.heap = u0 := ⟨hz, hu⟩
  refine a_world (V1 := OW h0 n0 u0 E σ.2.2.1 σ) (OW.start hB) ?_
  unfold wp_X0_setAir at hw
  refine a_aload_3 (pc := 0) C dX0_setAir_0 ?_
  refine a_iconst (pc := 1) C dX0_setAir_1 ic_0 ?_
  refine a_aload_0 (pc := 2) C dX0_setAir_2 ?_
  refine a_iload_1 (pc := 3) C dX0_setAir_3 ?_
  refine a_iload_2 (pc := 4) C dX0_setAir_4 ?_
  refine o_callXVi (pc := 5) C hs [.int p2, .int p3] (b := p1) (ci := 0) (st := [.int 0, .ref p4]) (fun h n u hB => ct_X1_setAir l G p1 _ _ E _ _ _ hw.2 h n u hB) (by decide) (by decide) rfl hw.1 q65 q1423 q1424 q1425 (lw_meth q1426) sg_X1_setAir (Nat.le_of_ble_eq_true rfl) dX0_setAir_5 (fun v2 σ1 hw => ?_) (fun k9 σx hx => ?_)
  · refine a_i2l (pc := 8) C dX0_setAir_8 ?_
    obtain ⟨n4, f5, af5, if5, hw⟩ := hw
    refine a_last (pc := 9) C (V1 := OW h0 n0 u0 E σ.2.2.1 (oPut σ1 p4 (.inl (1, n4, .inr (.inl (vp_updL f5 (0 : Int32).toNatClampNeg (v2.toInt64))))))) (fun h n u hV => ⟨o_arr af5 hV, hV.putA af5⟩) if5 dX0_setAir_9 (o_top (fun σ3 eσ3 => ?_))
    have hw := hw σ3 eσ3
    refine a_goto (pc := 10) C 21 dX0_setAir_10 (by decide) ?_
    refine a_iconst (pc := 21) C dX0_setAir_21 ic_0 ?_
    exact a_xret (a_iret C dX0_setAir_22 (fun h n u hV => ⟨⟨(_, _), rfl, hw, hV⟩, o_end hs hV⟩))
  · rcases hx with ⟨rfl, hw⟩ | ⟨rfl, hw⟩
    · refine ax_catch C (tableOf []) ⟨0, 10, 13, 20⟩ (tableOf [(0, 10, 17, 13)]) (ht.trans rfl) (fun z hz => nomatch hz) (by decide) (by decide) q1300 q1320 (fun q7 => o_top (fun σ6 eσ6 => ?_))
      have hw := hw σ6 eσ6
      refine a_astore_4 (pc := 13) C dX0_setAir_13 (by decide) rfl ?_
      refine a_iconst (pc := 15) C dX0_setAir_15 ic_1 ?_
      exact a_xret (a_iret C dX0_setAir_16 (fun h n u hV => ⟨⟨(_, _), rfl, hw, hV⟩, o_end hs hV⟩))
    · refine ax_catch C (tableOf [(0, 10, 13, 20)]) ⟨0, 10, 17, 13⟩ (tableOf []) (ht.trans rfl) (by intro z hz; simp only [tableOf, List.map, List.mem_cons, List.not_mem_nil, or_false] at hz; subst hz; exact Or.inr ⟨by decide, _, q1300, by decide +kernel⟩) (by decide) (by decide) q1224 q515 (fun q9 => o_top (fun σ8 eσ8 => ?_))
      have hw := hw σ8 eσ8
      refine a_astore_4 (pc := 17) C dX0_setAir_17 (by decide) rfl ?_
      refine a_iconst (pc := 19) C dX0_setAir_19 ic_2 ?_
      exact a_xret (a_iret C dX0_setAir_20 (fun h n u hV => ⟨⟨(_, _), rfl, hw, hV⟩, o_end hs hV⟩))
def wp_X0_setDew (p1 : Nat) (p2 : Int32) (p3 : Int32) (p4 : Nat) (σ : OS) (Q : Int32 → OS → Prop) (X : Nat → OS → Prop) : Prop := (oC σ p1 0 ∧ wp_X1_setDew p1 p2 p3 σ (fun v2 σ1 => (∃ (n4 : Nat) (f5 : Nat → Int64), σ1.1 p4 = some (.inl (1, n4, .inr (.inl f5))) ∧ vp_in 0 n4 ∧ ∀ σ3 : OS, σ3 = oPut σ1 p4 (.inl (1, n4, .inr (.inl (vp_updL f5 (0 : Int32).toNatClampNeg (v2.toInt64))))) → (Q 0 σ3))) (fun k9 σx => (k9 = 0 ∧ ∀ σ6 : OS, σ6 = oXs σx 0 → (Q 1 σ6)) ∨ (k9 = 1 ∧ ∀ σ8 : OS, σ8 = oXs σx 0 → (Q 2 σ8))))
theorem sg_X0_setDew : aSig yX0_setDew 4 := by decide +kernel
set_option maxHeartbeats 4000000 in
theorem ct_X0_setDew (l : Launch) (G : aG) (p1 : Nat) (p2 : Int32) (p3 : Int32) (p4 : Nat) (E : Nat → Prop) (σ : OS) (Q : Int32 → OS → Prop) (X : Nat → OS → Prop) (hw : wp_X0_setDew p1 p2 p3 p4 σ Q X) (h0 : AH) (n0 u0 : Nat) (hB : OB h0 n0 E σ) : CTX l yX0_setDew (wsW_ yX0_setDew cX0_setDew 5 (some .int) [(0, 10, 13, 20), (0, 10, 17, 13)]) 9 G [.ref p1, .int p2, .int p3, .ref p4] h0 n0 u0 σ.2.2.1 (10 * σ.2.2.1) (o_pi Q h0 n0 u0 E σ.2.2.1) (o_px X h0 E) := by
  refine CTX.introW [some (.ref p1), some (.int p2), some (.int p3), some (.ref p4), none] pn_RX0 rfl (Nat.le_of_ble_eq_true rfl) ?_
  intro p e s m args below meth c C hz hu ht
  have hs : s.heap.size = n0 ∧ slT s.heap = u0 := ⟨hz, hu⟩
  refine a_world (V1 := OW h0 n0 u0 E σ.2.2.1 σ) (OW.start hB) ?_
  unfold wp_X0_setDew at hw
  refine a_aload_3 (pc := 0) C dX0_setDew_0 ?_
  refine a_iconst (pc := 1) C dX0_setDew_1 ic_0 ?_
  refine a_aload_0 (pc := 2) C dX0_setDew_2 ?_
  refine a_iload_1 (pc := 3) C dX0_setDew_3 ?_
  refine a_iload_2 (pc := 4) C dX0_setDew_4 ?_
  refine o_callXVi (pc := 5) C hs [.int p2, .int p3] (b := p1) (ci := 0) (st := [.int 0, .ref p4]) (fun h n u hB => ct_X1_setDew l G p1 _ _ E _ _ _ hw.2 h n u hB) (by decide) (by decide) rfl hw.1 q65 q1433 q1434 q1435 (lw_meth q1436) sg_X1_setDew (Nat.le_of_ble_eq_true rfl) dX0_setDew_5 (fun v2 σ1 hw => ?_) (fun k9 σx hx => ?_)
  · refine a_i2l (pc := 8) C dX0_setDew_8 ?_
    obtain ⟨n4, f5, af5, if5, hw⟩ := hw
    refine a_last (pc := 9) C (V1 := OW h0 n0 u0 E σ.2.2.1 (oPut σ1 p4 (.inl (1, n4, .inr (.inl (vp_updL f5 (0 : Int32).toNatClampNeg (v2.toInt64))))))) (fun h n u hV => ⟨o_arr af5 hV, hV.putA af5⟩) if5 dX0_setDew_9 (o_top (fun σ3 eσ3 => ?_))
    have hw := hw σ3 eσ3
    refine a_goto (pc := 10) C 21 dX0_setDew_10 (by decide) ?_
    refine a_iconst (pc := 21) C dX0_setDew_21 ic_0 ?_
    exact a_xret (a_iret C dX0_setDew_22 (fun h n u hV => ⟨⟨(_, _), rfl, hw, hV⟩, o_end hs hV⟩))
  · rcases hx with ⟨rfl, hw⟩ | ⟨rfl, hw⟩
    · refine ax_catch C (tableOf []) ⟨0, 10, 13, 20⟩ (tableOf [(0, 10, 17, 13)]) (ht.trans rfl) (fun z hz => nomatch hz) (by decide) (by decide) q1300 q1320 (fun q7 => o_top (fun σ6 eσ6 => ?_))
      have hw := hw σ6 eσ6
      refine a_astore_4 (pc := 13) C dX0_setDew_13 (by decide) rfl ?_
      refine a_iconst (pc := 15) C dX0_setDew_15 ic_1 ?_
      exact a_xret (a_iret C dX0_setDew_16 (fun h n u hV => ⟨⟨(_, _), rfl, hw, hV⟩, o_end hs hV⟩))
    · refine ax_catch C (tableOf [(0, 10, 13, 20)]) ⟨0, 10, 17, 13⟩ (tableOf []) (ht.trans rfl) (by intro z hz; simp only [tableOf, List.map, List.mem_cons, List.not_mem_nil, or_false] at hz; subst hz; exact Or.inr ⟨by decide, _, q1300, by decide +kernel⟩) (by decide) (by decide) q1224 q515 (fun q9 => o_top (fun σ8 eσ8 => ?_))
      have hw := hw σ8 eσ8
      refine a_astore_4 (pc := 17) C dX0_setDew_17 (by decide) rfl ?_
      refine a_iconst (pc := 19) C dX0_setDew_19 ic_2 ?_
      exact a_xret (a_iret C dX0_setDew_20 (fun h n u hV => ⟨⟨(_, _), rfl, hw, hV⟩, o_end hs hV⟩))
def wp_X0_setTurn (p1 : Nat) (p2 : Int32) (p3 : Int32) (p4 : Nat) (σ : OS) (Q : Int32 → OS → Prop) (X : Nat → OS → Prop) : Prop := (oC σ p1 0 ∧ wp_X1_setTurn p1 p2 p3 σ (fun v2 σ1 => (∃ (n4 : Nat) (f5 : Nat → Int64), σ1.1 p4 = some (.inl (1, n4, .inr (.inl f5))) ∧ vp_in 0 n4 ∧ ∀ σ3 : OS, σ3 = oPut σ1 p4 (.inl (1, n4, .inr (.inl (vp_updL f5 (0 : Int32).toNatClampNeg (v2.toInt64))))) → (Q 0 σ3))) (fun k9 σx => (k9 = 0 ∧ ∀ σ6 : OS, σ6 = oXs σx 0 → (Q 1 σ6)) ∨ (k9 = 1 ∧ ∀ σ8 : OS, σ8 = oXs σx 0 → (Q 2 σ8))))
theorem sg_X0_setTurn : aSig yX0_setTurn 4 := by decide +kernel
set_option maxHeartbeats 4000000 in
theorem ct_X0_setTurn (l : Launch) (G : aG) (p1 : Nat) (p2 : Int32) (p3 : Int32) (p4 : Nat) (E : Nat → Prop) (σ : OS) (Q : Int32 → OS → Prop) (X : Nat → OS → Prop) (hw : wp_X0_setTurn p1 p2 p3 p4 σ Q X) (h0 : AH) (n0 u0 : Nat) (hB : OB h0 n0 E σ) : CTX l yX0_setTurn (wsW_ yX0_setTurn cX0_setTurn 5 (some .int) [(0, 10, 13, 20), (0, 10, 17, 13)]) 9 G [.ref p1, .int p2, .int p3, .ref p4] h0 n0 u0 σ.2.2.1 (10 * σ.2.2.1) (o_pi Q h0 n0 u0 E σ.2.2.1) (o_px X h0 E) := by
  refine CTX.introW [some (.ref p1), some (.int p2), some (.int p3), some (.ref p4), none] pn_RX0 rfl (Nat.le_of_ble_eq_true rfl) ?_
  intro p e s m args below meth c C hz hu ht
  have hs : s.heap.size = n0 ∧ slT s.heap = u0 := ⟨hz, hu⟩
  refine a_world (V1 := OW h0 n0 u0 E σ.2.2.1 σ) (OW.start hB) ?_
  unfold wp_X0_setTurn at hw
  refine a_aload_3 (pc := 0) C dX0_setTurn_0 ?_
  refine a_iconst (pc := 1) C dX0_setTurn_1 ic_0 ?_
  refine a_aload_0 (pc := 2) C dX0_setTurn_2 ?_
  refine a_iload_1 (pc := 3) C dX0_setTurn_3 ?_
  refine a_iload_2 (pc := 4) C dX0_setTurn_4 ?_
  refine o_callXVi (pc := 5) C hs [.int p2, .int p3] (b := p1) (ci := 0) (st := [.int 0, .ref p4]) (fun h n u hB => ct_X1_setTurn l G p1 _ _ E _ _ _ hw.2 h n u hB) (by decide) (by decide) rfl hw.1 q65 q1440 q1441 q1442 (lw_meth q1443) sg_X1_setTurn (Nat.le_of_ble_eq_true rfl) dX0_setTurn_5 (fun v2 σ1 hw => ?_) (fun k9 σx hx => ?_)
  · refine a_i2l (pc := 8) C dX0_setTurn_8 ?_
    obtain ⟨n4, f5, af5, if5, hw⟩ := hw
    refine a_last (pc := 9) C (V1 := OW h0 n0 u0 E σ.2.2.1 (oPut σ1 p4 (.inl (1, n4, .inr (.inl (vp_updL f5 (0 : Int32).toNatClampNeg (v2.toInt64))))))) (fun h n u hV => ⟨o_arr af5 hV, hV.putA af5⟩) if5 dX0_setTurn_9 (o_top (fun σ3 eσ3 => ?_))
    have hw := hw σ3 eσ3
    refine a_goto (pc := 10) C 21 dX0_setTurn_10 (by decide) ?_
    refine a_iconst (pc := 21) C dX0_setTurn_21 ic_0 ?_
    exact a_xret (a_iret C dX0_setTurn_22 (fun h n u hV => ⟨⟨(_, _), rfl, hw, hV⟩, o_end hs hV⟩))
  · rcases hx with ⟨rfl, hw⟩ | ⟨rfl, hw⟩
    · refine ax_catch C (tableOf []) ⟨0, 10, 13, 20⟩ (tableOf [(0, 10, 17, 13)]) (ht.trans rfl) (fun z hz => nomatch hz) (by decide) (by decide) q1300 q1320 (fun q7 => o_top (fun σ6 eσ6 => ?_))
      have hw := hw σ6 eσ6
      refine a_astore_4 (pc := 13) C dX0_setTurn_13 (by decide) rfl ?_
      refine a_iconst (pc := 15) C dX0_setTurn_15 ic_1 ?_
      exact a_xret (a_iret C dX0_setTurn_16 (fun h n u hV => ⟨⟨(_, _), rfl, hw, hV⟩, o_end hs hV⟩))
    · refine ax_catch C (tableOf [(0, 10, 13, 20)]) ⟨0, 10, 17, 13⟩ (tableOf []) (ht.trans rfl) (by intro z hz; simp only [tableOf, List.map, List.mem_cons, List.not_mem_nil, or_false] at hz; subst hz; exact Or.inr ⟨by decide, _, q1300, by decide +kernel⟩) (by decide) (by decide) q1224 q515 (fun q9 => o_top (fun σ8 eσ8 => ?_))
      have hw := hw σ8 eσ8
      refine a_astore_4 (pc := 17) C dX0_setTurn_17 (by decide) rfl ?_
      refine a_iconst (pc := 19) C dX0_setTurn_19 ic_2 ?_
      exact a_xret (a_iret C dX0_setTurn_20 (fun h n u hV => ⟨⟨(_, _), rfl, hw, hV⟩, o_end hs hV⟩))
def wp_X0_setHeats (p1 : Nat) (p2 : Int32) (p3 : Int32) (p4 : Nat) (σ : OS) (Q : Int32 → OS → Prop) (X : Nat → OS → Prop) : Prop := (oC σ p1 0 ∧ wp_X1_setHeats p1 p2 p3 σ (fun v2 σ1 => (∃ (n4 : Nat) (f5 : Nat → Int64), σ1.1 p4 = some (.inl (1, n4, .inr (.inl f5))) ∧ vp_in 0 n4 ∧ ∀ σ3 : OS, σ3 = oPut σ1 p4 (.inl (1, n4, .inr (.inl (vp_updL f5 (0 : Int32).toNatClampNeg (v2.toInt64))))) → (Q 0 σ3))) (fun k9 σx => (k9 = 1 ∧ ∀ σ6 : OS, σ6 = oXs σx 0 → (Q 1 σ6)) ∨ (k9 = 2 ∧ ∀ σ8 : OS, σ8 = oXs σx 0 → (Q 2 σ8))))
theorem sg_X0_setHeats : aSig yX0_setHeats 4 := by decide +kernel
set_option maxHeartbeats 4000000 in
theorem ct_X0_setHeats (l : Launch) (G : aG) (p1 : Nat) (p2 : Int32) (p3 : Int32) (p4 : Nat) (E : Nat → Prop) (σ : OS) (Q : Int32 → OS → Prop) (X : Nat → OS → Prop) (hw : wp_X0_setHeats p1 p2 p3 p4 σ Q X) (h0 : AH) (n0 u0 : Nat) (hB : OB h0 n0 E σ) : CTX l yX0_setHeats (wsW_ yX0_setHeats cX0_setHeats 5 (some .int) [(0, 10, 13, 13), (0, 10, 17, 15)]) 8 G [.ref p1, .int p2, .int p3, .ref p4] h0 n0 u0 σ.2.2.1 (10 * σ.2.2.1) (o_pi Q h0 n0 u0 E σ.2.2.1) (o_px X h0 E) := by
  refine CTX.introW [some (.ref p1), some (.int p2), some (.int p3), some (.ref p4), none] pn_RX0 rfl (Nat.le_of_ble_eq_true rfl) ?_
  intro p e s m args below meth c C hz hu ht
  have hs : s.heap.size = n0 ∧ slT s.heap = u0 := ⟨hz, hu⟩
  refine a_world (V1 := OW h0 n0 u0 E σ.2.2.1 σ) (OW.start hB) ?_
  unfold wp_X0_setHeats at hw
  refine a_aload_3 (pc := 0) C dX0_setHeats_0 ?_
  refine a_iconst (pc := 1) C dX0_setHeats_1 ic_0 ?_
  refine a_aload_0 (pc := 2) C dX0_setHeats_2 ?_
  refine a_iload_1 (pc := 3) C dX0_setHeats_3 ?_
  refine a_iload_2 (pc := 4) C dX0_setHeats_4 ?_
  refine o_callXVi (pc := 5) C hs [.int p2, .int p3] (b := p1) (ci := 0) (st := [.int 0, .ref p4]) (fun h n u hB => ct_X1_setHeats l G p1 _ _ E _ _ _ hw.2 h n u hB) (by decide) (by decide) rfl hw.1 q65 q1447 q1448 q1449 (lw_meth q1450) sg_X1_setHeats (Nat.le_of_ble_eq_true rfl) dX0_setHeats_5 (fun v2 σ1 hw => ?_) (fun k9 σx hx => ?_)
  · refine a_i2l (pc := 8) C dX0_setHeats_8 ?_
    obtain ⟨n4, f5, af5, if5, hw⟩ := hw
    refine a_last (pc := 9) C (V1 := OW h0 n0 u0 E σ.2.2.1 (oPut σ1 p4 (.inl (1, n4, .inr (.inl (vp_updL f5 (0 : Int32).toNatClampNeg (v2.toInt64))))))) (fun h n u hV => ⟨o_arr af5 hV, hV.putA af5⟩) if5 dX0_setHeats_9 (o_top (fun σ3 eσ3 => ?_))
    have hw := hw σ3 eσ3
    refine a_goto (pc := 10) C 21 dX0_setHeats_10 (by decide) ?_
    refine a_iconst (pc := 21) C dX0_setHeats_21 ic_0 ?_
    exact a_xret (a_iret C dX0_setHeats_22 (fun h n u hV => ⟨⟨(_, _), rfl, hw, hV⟩, o_end hs hV⟩))
  · rcases hx with ⟨rfl, hw⟩ | ⟨rfl, hw⟩
    · refine ax_catch C (tableOf []) ⟨0, 10, 13, 13⟩ (tableOf [(0, 10, 17, 15)]) (ht.trans rfl) (fun z hz => nomatch hz) (by decide) (by decide) q1224 q515 (fun q7 => o_top (fun σ6 eσ6 => ?_))
      have hw := hw σ6 eσ6
      refine a_astore_4 (pc := 13) C dX0_setHeats_13 (by decide) rfl ?_
      refine a_iconst (pc := 15) C dX0_setHeats_15 ic_1 ?_
      exact a_xret (a_iret C dX0_setHeats_16 (fun h n u hV => ⟨⟨(_, _), rfl, hw, hV⟩, o_end hs hV⟩))
    · refine ax_catch C (tableOf [(0, 10, 13, 13)]) ⟨0, 10, 17, 15⟩ (tableOf []) (ht.trans rfl) (by intro z hz; simp only [tableOf, List.map, List.mem_cons, List.not_mem_nil, or_false] at hz; subst hz; exact Or.inr ⟨by decide, _, q1224, by decide +kernel⟩) (by decide) (by decide) q1225 q1242 (fun q9 => o_top (fun σ8 eσ8 => ?_))
      have hw := hw σ8 eσ8
      refine a_astore_4 (pc := 17) C dX0_setHeats_17 (by decide) rfl ?_
      refine a_iconst (pc := 19) C dX0_setHeats_19 ic_2 ?_
      exact a_xret (a_iret C dX0_setHeats_20 (fun h n u hV => ⟨⟨(_, _), rfl, hw, hV⟩, o_end hs hV⟩))
def wp_X0_setSprays (p1 : Nat) (p2 : Int32) (p3 : Nat) (σ : OS) (Q : Int32 → OS → Prop) (X : Nat → OS → Prop) : Prop := (oC σ p1 0 ∧ wp_X1_setSprays p1 p2 σ (fun v2 σ1 => (∃ (n4 : Nat) (f5 : Nat → Int64), σ1.1 p3 = some (.inl (1, n4, .inr (.inl f5))) ∧ vp_in 0 n4 ∧ ∀ σ3 : OS, σ3 = oPut σ1 p3 (.inl (1, n4, .inr (.inl (vp_updL f5 (0 : Int32).toNatClampNeg (v2.toInt64))))) → (Q 0 σ3))) (fun k9 σx => (k9 = 1 ∧ ∀ σ6 : OS, σ6 = oXs σx 0 → (Q 1 σ6))))
theorem sg_X0_setSprays : aSig yX0_setSprays 3 := by decide +kernel
set_option maxHeartbeats 4000000 in
theorem ct_X0_setSprays (l : Launch) (G : aG) (p1 : Nat) (p2 : Int32) (p3 : Nat) (E : Nat → Prop) (σ : OS) (Q : Int32 → OS → Prop) (X : Nat → OS → Prop) (hw : wp_X0_setSprays p1 p2 p3 σ Q X) (h0 : AH) (n0 u0 : Nat) (hB : OB h0 n0 E σ) : CTX l yX0_setSprays (wsW_ yX0_setSprays cX0_setSprays 4 (some .int) [(0, 9, 12, 13)]) 8 G [.ref p1, .int p2, .ref p3] h0 n0 u0 σ.2.2.1 (10 * σ.2.2.1) (o_pi Q h0 n0 u0 E σ.2.2.1) (o_px X h0 E) := by
  refine CTX.introW [some (.ref p1), some (.int p2), some (.ref p3), none] pn_RX0 rfl (Nat.le_of_ble_eq_true rfl) ?_
  intro p e s m args below meth c C hz hu ht
  have hs : s.heap.size = n0 ∧ slT s.heap = u0 := ⟨hz, hu⟩
  refine a_world (V1 := OW h0 n0 u0 E σ.2.2.1 σ) (OW.start hB) ?_
  unfold wp_X0_setSprays at hw
  refine a_aload_2 (pc := 0) C dX0_setSprays_0 ?_
  refine a_iconst (pc := 1) C dX0_setSprays_1 ic_0 ?_
  refine a_aload_0 (pc := 2) C dX0_setSprays_2 ?_
  refine a_iload_1 (pc := 3) C dX0_setSprays_3 ?_
  refine o_callXVi (pc := 4) C hs [.int p2] (b := p1) (ci := 0) (st := [.int 0, .ref p3]) (fun h n u hB => ct_X1_setSprays l G p1 _ E _ _ _ hw.2 h n u hB) (by decide) (by decide) rfl hw.1 q65 q1454 q1455 q1456 (lw_meth q1457) sg_X1_setSprays (Nat.le_of_ble_eq_true rfl) dX0_setSprays_4 (fun v2 σ1 hw => ?_) (fun k9 σx hx => ?_)
  · refine a_i2l (pc := 7) C dX0_setSprays_7 ?_
    obtain ⟨n4, f5, af5, if5, hw⟩ := hw
    refine a_last (pc := 8) C (V1 := OW h0 n0 u0 E σ.2.2.1 (oPut σ1 p3 (.inl (1, n4, .inr (.inl (vp_updL f5 (0 : Int32).toNatClampNeg (v2.toInt64))))))) (fun h n u hV => ⟨o_arr af5 hV, hV.putA af5⟩) if5 dX0_setSprays_8 (o_top (fun σ3 eσ3 => ?_))
    have hw := hw σ3 eσ3
    refine a_goto (pc := 9) C 15 dX0_setSprays_9 (by decide) ?_
    refine a_iconst (pc := 15) C dX0_setSprays_15 ic_0 ?_
    exact a_xret (a_iret C dX0_setSprays_16 (fun h n u hV => ⟨⟨(_, _), rfl, hw, hV⟩, o_end hs hV⟩))
  · rcases hx with ⟨rfl, hw⟩
    · refine ax_catch C (tableOf []) ⟨0, 9, 12, 13⟩ (tableOf []) (ht.trans rfl) (fun z hz => nomatch hz) (by decide) (by decide) q1224 q515 (fun q7 => o_top (fun σ6 eσ6 => ?_))
      have hw := hw σ6 eσ6
      refine a_astore_3 (pc := 12) C dX0_setSprays_12 (by decide) rfl ?_
      refine a_iconst (pc := 13) C dX0_setSprays_13 ic_1 ?_
      exact a_xret (a_iret C dX0_setSprays_14 (fun h n u hV => ⟨⟨(_, _), rfl, hw, hV⟩, o_end hs hV⟩))
def wp_X0_pass (p1 : Nat) (p2 : Int32) (p3 : Nat) (σ : OS) (Q : Int32 → OS → Prop) (X : Nat → OS → Prop) : Prop := (oC σ p1 0 ∧ wp_X1_pass p1 p2 σ (fun v2 σ1 => (∃ (n4 : Nat) (f5 : Nat → Int64), σ1.1 p3 = some (.inl (1, n4, .inr (.inl f5))) ∧ vp_in 0 n4 ∧ ∀ σ3 : OS, σ3 = oPut σ1 p3 (.inl (1, n4, .inr (.inl (vp_updL f5 (0 : Int32).toNatClampNeg (v2.toInt64))))) → (Q 0 σ3))) (fun k9 σx => (k9 = 1 ∧ ∀ σ6 : OS, σ6 = oXs σx 0 → (Q 1 σ6))))
theorem sg_X0_pass : aSig yX0_pass 3 := by decide +kernel
set_option maxHeartbeats 4000000 in
theorem ct_X0_pass (l : Launch) (G : aG) (p1 : Nat) (p2 : Int32) (p3 : Nat) (E : Nat → Prop) (σ : OS) (Q : Int32 → OS → Prop) (X : Nat → OS → Prop) (hw : wp_X0_pass p1 p2 p3 σ Q X) (h0 : AH) (n0 u0 : Nat) (hB : OB h0 n0 E σ) : CTX l yX0_pass (wsW_ yX0_pass cX0_pass 4 (some .int) [(0, 9, 12, 13)]) 22 G [.ref p1, .int p2, .ref p3] h0 n0 u0 σ.2.2.1 (10 * σ.2.2.1) (o_pi Q h0 n0 u0 E σ.2.2.1) (o_px X h0 E) := by
  refine CTX.introW [some (.ref p1), some (.int p2), some (.ref p3), none] pn_RX0 rfl (Nat.le_of_ble_eq_true rfl) ?_
  intro p e s m args below meth c C hz hu ht
  have hs : s.heap.size = n0 ∧ slT s.heap = u0 := ⟨hz, hu⟩
  refine a_world (V1 := OW h0 n0 u0 E σ.2.2.1 σ) (OW.start hB) ?_
  unfold wp_X0_pass at hw
  refine a_aload_2 (pc := 0) C dX0_pass_0 ?_
  refine a_iconst (pc := 1) C dX0_pass_1 ic_0 ?_
  refine a_aload_0 (pc := 2) C dX0_pass_2 ?_
  refine a_iload_1 (pc := 3) C dX0_pass_3 ?_
  refine o_callXVi (pc := 4) C hs [.int p2] (b := p1) (ci := 0) (st := [.int 0, .ref p3]) (fun h n u hB => ct_X1_pass l G p1 _ E _ _ _ hw.2 h n u hB) (by decide) (by decide) rfl hw.1 q65 q1461 q1462 q1463 (lw_meth q1464) sg_X1_pass (Nat.le_of_ble_eq_true rfl) dX0_pass_4 (fun v2 σ1 hw => ?_) (fun k9 σx hx => ?_)
  · refine a_i2l (pc := 7) C dX0_pass_7 ?_
    obtain ⟨n4, f5, af5, if5, hw⟩ := hw
    refine a_last (pc := 8) C (V1 := OW h0 n0 u0 E σ.2.2.1 (oPut σ1 p3 (.inl (1, n4, .inr (.inl (vp_updL f5 (0 : Int32).toNatClampNeg (v2.toInt64))))))) (fun h n u hV => ⟨o_arr af5 hV, hV.putA af5⟩) if5 dX0_pass_8 (o_top (fun σ3 eσ3 => ?_))
    have hw := hw σ3 eσ3
    refine a_goto (pc := 9) C 15 dX0_pass_9 (by decide) ?_
    refine a_iconst (pc := 15) C dX0_pass_15 ic_0 ?_
    exact a_xret (a_iret C dX0_pass_16 (fun h n u hV => ⟨⟨(_, _), rfl, hw, hV⟩, o_end hs hV⟩))
  · rcases hx with ⟨rfl, hw⟩
    · refine ax_catch C (tableOf []) ⟨0, 9, 12, 13⟩ (tableOf []) (ht.trans rfl) (fun z hz => nomatch hz) (by decide) (by decide) q1224 q515 (fun q7 => o_top (fun σ6 eσ6 => ?_))
      have hw := hw σ6 eσ6
      refine a_astore_3 (pc := 12) C dX0_pass_12 (by decide) rfl ?_
      refine a_iconst (pc := 13) C dX0_pass_13 ic_1 ?_
      exact a_xret (a_iret C dX0_pass_14 (fun h n u hV => ⟨⟨(_, _), rfl, hw, hV⟩, o_end hs hV⟩))
def wp_X0_append (p1 : Nat) (p2 : Int32) (p3 : Nat) (σ : OS) (Q : Int32 → OS → Prop) (X : Nat → OS → Prop) : Prop := (oC σ p1 0 ∧ wp_X1_append p1 p2 σ (fun v2 σ1 => (∃ (n4 : Nat) (f5 : Nat → Int64), σ1.1 p3 = some (.inl (1, n4, .inr (.inl f5))) ∧ vp_in 0 n4 ∧ ∀ σ3 : OS, σ3 = oPut σ1 p3 (.inl (1, n4, .inr (.inl (vp_updL f5 (0 : Int32).toNatClampNeg (v2.toInt64))))) → (Q 0 σ3))) (fun k9 σx => (k9 = 1 ∧ ∀ σ6 : OS, σ6 = oXs σx 0 → (Q 1 σ6)) ∨ (k9 = 2 ∧ ∀ σ8 : OS, σ8 = oXs σx 0 → (Q 2 σ8))))
theorem sg_X0_append : aSig yX0_append 3 := by decide +kernel
set_option maxHeartbeats 4000000 in
theorem ct_X0_append (l : Launch) (G : aG) (p1 : Nat) (p2 : Int32) (p3 : Nat) (E : Nat → Prop) (σ : OS) (Q : Int32 → OS → Prop) (X : Nat → OS → Prop) (hw : wp_X0_append p1 p2 p3 σ Q X) (h0 : AH) (n0 u0 : Nat) (hB : OB h0 n0 E σ) : CTX l yX0_append (wsW_ yX0_append cX0_append 4 (some .int) [(0, 9, 12, 13), (0, 9, 15, 15)]) 8 G [.ref p1, .int p2, .ref p3] h0 n0 u0 σ.2.2.1 (10 * σ.2.2.1) (o_pi Q h0 n0 u0 E σ.2.2.1) (o_px X h0 E) := by
  refine CTX.introW [some (.ref p1), some (.int p2), some (.ref p3), none] pn_RX0 rfl (Nat.le_of_ble_eq_true rfl) ?_
  intro p e s m args below meth c C hz hu ht
  have hs : s.heap.size = n0 ∧ slT s.heap = u0 := ⟨hz, hu⟩
  refine a_world (V1 := OW h0 n0 u0 E σ.2.2.1 σ) (OW.start hB) ?_
  unfold wp_X0_append at hw
  refine a_aload_2 (pc := 0) C dX0_append_0 ?_
  refine a_iconst (pc := 1) C dX0_append_1 ic_0 ?_
  refine a_aload_0 (pc := 2) C dX0_append_2 ?_
  refine a_iload_1 (pc := 3) C dX0_append_3 ?_
  refine o_callXVi (pc := 4) C hs [.int p2] (b := p1) (ci := 0) (st := [.int 0, .ref p3]) (fun h n u hB => ct_X1_append l G p1 _ E _ _ _ hw.2 h n u hB) (by decide) (by decide) rfl hw.1 q65 q1473 q1474 q1475 (lw_meth q1476) sg_X1_append (Nat.le_of_ble_eq_true rfl) dX0_append_4 (fun v2 σ1 hw => ?_) (fun k9 σx hx => ?_)
  · refine a_i2l (pc := 7) C dX0_append_7 ?_
    obtain ⟨n4, f5, af5, if5, hw⟩ := hw
    refine a_last (pc := 8) C (V1 := OW h0 n0 u0 E σ.2.2.1 (oPut σ1 p3 (.inl (1, n4, .inr (.inl (vp_updL f5 (0 : Int32).toNatClampNeg (v2.toInt64))))))) (fun h n u hV => ⟨o_arr af5 hV, hV.putA af5⟩) if5 dX0_append_8 (o_top (fun σ3 eσ3 => ?_))
    have hw := hw σ3 eσ3
    refine a_goto (pc := 9) C 18 dX0_append_9 (by decide) ?_
    refine a_iconst (pc := 18) C dX0_append_18 ic_0 ?_
    exact a_xret (a_iret C dX0_append_19 (fun h n u hV => ⟨⟨(_, _), rfl, hw, hV⟩, o_end hs hV⟩))
  · rcases hx with ⟨rfl, hw⟩ | ⟨rfl, hw⟩
    · refine ax_catch C (tableOf []) ⟨0, 9, 12, 13⟩ (tableOf [(0, 9, 15, 15)]) (ht.trans rfl) (fun z hz => nomatch hz) (by decide) (by decide) q1224 q515 (fun q7 => o_top (fun σ6 eσ6 => ?_))
      have hw := hw σ6 eσ6
      refine a_astore_3 (pc := 12) C dX0_append_12 (by decide) rfl ?_
      refine a_iconst (pc := 13) C dX0_append_13 ic_1 ?_
      exact a_xret (a_iret C dX0_append_14 (fun h n u hV => ⟨⟨(_, _), rfl, hw, hV⟩, o_end hs hV⟩))
    · refine ax_catch C (tableOf [(0, 9, 12, 13)]) ⟨0, 9, 15, 15⟩ (tableOf []) (ht.trans rfl) (by intro z hz; simp only [tableOf, List.map, List.mem_cons, List.not_mem_nil, or_false] at hz; subst hz; exact Or.inr ⟨by decide, _, q1224, by decide +kernel⟩) (by decide) (by decide) q1225 q1242 (fun q9 => o_top (fun σ8 eσ8 => ?_))
      have hw := hw σ8 eσ8
      refine a_astore_3 (pc := 15) C dX0_append_15 (by decide) rfl ?_
      refine a_iconst (pc := 16) C dX0_append_16 ic_2 ?_
      exact a_xret (a_iret C dX0_append_17 (fun h n u hV => ⟨⟨(_, _), rfl, hw, hV⟩, o_end hs hV⟩))
def wp_X0_undo (p1 : Nat) (p2 : Nat) (σ : OS) (Q : Int32 → OS → Prop) (X : Nat → OS → Prop) : Prop := (oC σ p1 0 ∧ wp_X1_undo p1 σ (fun v2 σ1 => (∃ (n4 : Nat) (f5 : Nat → Int64), σ1.1 p2 = some (.inl (1, n4, .inr (.inl f5))) ∧ vp_in 0 n4 ∧ ∀ σ3 : OS, σ3 = oPut σ1 p2 (.inl (1, n4, .inr (.inl (vp_updL f5 (0 : Int32).toNatClampNeg (v2.toInt64))))) → (Q 0 σ3))) (fun k9 σx => (k9 = 2 ∧ ∀ σ6 : OS, σ6 = oXs σx 0 → (Q 1 σ6))))
theorem sg_X0_undo : aSig yX0_undo 2 := by decide +kernel
set_option maxHeartbeats 4000000 in
theorem ct_X0_undo (l : Launch) (G : aG) (p1 : Nat) (p2 : Nat) (E : Nat → Prop) (σ : OS) (Q : Int32 → OS → Prop) (X : Nat → OS → Prop) (hw : wp_X0_undo p1 p2 σ Q X) (h0 : AH) (n0 u0 : Nat) (hB : OB h0 n0 E σ) : CTX l yX0_undo (wsW_ yX0_undo cX0_undo 3 (some .int) [(0, 8, 11, 15)]) 8 G [.ref p1, .ref p2] h0 n0 u0 σ.2.2.1 (10 * σ.2.2.1) (o_pi Q h0 n0 u0 E σ.2.2.1) (o_px X h0 E) := by
  refine CTX.introW [some (.ref p1), some (.ref p2), none] pn_RX0 rfl (Nat.le_of_ble_eq_true rfl) ?_
  intro p e s m args below meth c C hz hu ht
  have hs : s.heap.size = n0 ∧ slT s.heap = u0 := ⟨hz, hu⟩
  refine a_world (V1 := OW h0 n0 u0 E σ.2.2.1 σ) (OW.start hB) ?_
  unfold wp_X0_undo at hw
  refine a_aload_1 (pc := 0) C dX0_undo_0 ?_
  refine a_iconst (pc := 1) C dX0_undo_1 ic_0 ?_
  refine a_aload_0 (pc := 2) C dX0_undo_2 ?_
  refine o_callXVi (pc := 3) C hs [] (b := p1) (ci := 0) (st := [.int 0, .ref p2]) (fun h n u hB => ct_X1_undo l G p1 E _ _ _ hw.2 h n u hB) (by decide) (by decide) rfl hw.1 q65 q1564 q1565 q1566 (lw_meth q1567) sg_X1_undo (Nat.le_of_ble_eq_true rfl) dX0_undo_3 (fun v2 σ1 hw => ?_) (fun k9 σx hx => ?_)
  · refine a_i2l (pc := 6) C dX0_undo_6 ?_
    obtain ⟨n4, f5, af5, if5, hw⟩ := hw
    refine a_last (pc := 7) C (V1 := OW h0 n0 u0 E σ.2.2.1 (oPut σ1 p2 (.inl (1, n4, .inr (.inl (vp_updL f5 (0 : Int32).toNatClampNeg (v2.toInt64))))))) (fun h n u hV => ⟨o_arr af5 hV, hV.putA af5⟩) if5 dX0_undo_7 (o_top (fun σ3 eσ3 => ?_))
    have hw := hw σ3 eσ3
    refine a_goto (pc := 8) C 14 dX0_undo_8 (by decide) ?_
    refine a_iconst (pc := 14) C dX0_undo_14 ic_0 ?_
    exact a_xret (a_iret C dX0_undo_15 (fun h n u hV => ⟨⟨(_, _), rfl, hw, hV⟩, o_end hs hV⟩))
  · rcases hx with ⟨rfl, hw⟩
    · refine ax_catch C (tableOf []) ⟨0, 8, 11, 15⟩ (tableOf []) (ht.trans rfl) (fun z hz => nomatch hz) (by decide) (by decide) q1225 q1242 (fun q7 => o_top (fun σ6 eσ6 => ?_))
      have hw := hw σ6 eσ6
      refine a_astore_2 (pc := 11) C dX0_undo_11 (by decide) rfl ?_
      refine a_iconst (pc := 12) C dX0_undo_12 ic_1 ?_
      exact a_xret (a_iret C dX0_undo_13 (fun h n u hV => ⟨⟨(_, _), rfl, hw, hV⟩, o_end hs hV⟩))
def wp_X0_restore (p1 : Nat) (p2 : Nat) (σ : OS) (Q : Int32 → OS → Prop) (X : Nat → OS → Prop) : Prop := (oC σ p1 0 ∧ wp_X1_restore p1 σ (fun v2 σ1 => (∃ (n4 : Nat) (f5 : Nat → Int64), σ1.1 p2 = some (.inl (1, n4, .inr (.inl f5))) ∧ vp_in 0 n4 ∧ ∀ σ3 : OS, σ3 = oPut σ1 p2 (.inl (1, n4, .inr (.inl (vp_updL f5 (0 : Int32).toNatClampNeg (v2.toInt64))))) → (Q 0 σ3))) (fun k9 σx => (k9 = 2 ∧ ∀ σ6 : OS, σ6 = oXs σx 0 → (Q 1 σ6))))
theorem sg_X0_restore : aSig yX0_restore 2 := by decide +kernel
set_option maxHeartbeats 4000000 in
theorem ct_X0_restore (l : Launch) (G : aG) (p1 : Nat) (p2 : Nat) (E : Nat → Prop) (σ : OS) (Q : Int32 → OS → Prop) (X : Nat → OS → Prop) (hw : wp_X0_restore p1 p2 σ Q X) (h0 : AH) (n0 u0 : Nat) (hB : OB h0 n0 E σ) : CTX l yX0_restore (wsW_ yX0_restore cX0_restore 3 (some .int) [(0, 8, 11, 15)]) 8 G [.ref p1, .ref p2] h0 n0 u0 σ.2.2.1 (10 * σ.2.2.1) (o_pi Q h0 n0 u0 E σ.2.2.1) (o_px X h0 E) := by
  refine CTX.introW [some (.ref p1), some (.ref p2), none] pn_RX0 rfl (Nat.le_of_ble_eq_true rfl) ?_
  intro p e s m args below meth c C hz hu ht
  have hs : s.heap.size = n0 ∧ slT s.heap = u0 := ⟨hz, hu⟩
  refine a_world (V1 := OW h0 n0 u0 E σ.2.2.1 σ) (OW.start hB) ?_
  unfold wp_X0_restore at hw
  refine a_aload_1 (pc := 0) C dX0_restore_0 ?_
  refine a_iconst (pc := 1) C dX0_restore_1 ic_0 ?_
  refine a_aload_0 (pc := 2) C dX0_restore_2 ?_
  refine o_callXVi (pc := 3) C hs [] (b := p1) (ci := 0) (st := [.int 0, .ref p2]) (fun h n u hB => ct_X1_restore l G p1 E _ _ _ hw.2 h n u hB) (by decide) (by decide) rfl hw.1 q65 q1586 q1587 q1588 (lw_meth q1589) sg_X1_restore (Nat.le_of_ble_eq_true rfl) dX0_restore_3 (fun v2 σ1 hw => ?_) (fun k9 σx hx => ?_)
  · refine a_i2l (pc := 6) C dX0_restore_6 ?_
    obtain ⟨n4, f5, af5, if5, hw⟩ := hw
    refine a_last (pc := 7) C (V1 := OW h0 n0 u0 E σ.2.2.1 (oPut σ1 p2 (.inl (1, n4, .inr (.inl (vp_updL f5 (0 : Int32).toNatClampNeg (v2.toInt64))))))) (fun h n u hV => ⟨o_arr af5 hV, hV.putA af5⟩) if5 dX0_restore_7 (o_top (fun σ3 eσ3 => ?_))
    have hw := hw σ3 eσ3
    refine a_goto (pc := 8) C 14 dX0_restore_8 (by decide) ?_
    refine a_iconst (pc := 14) C dX0_restore_14 ic_0 ?_
    exact a_xret (a_iret C dX0_restore_15 (fun h n u hV => ⟨⟨(_, _), rfl, hw, hV⟩, o_end hs hV⟩))
  · rcases hx with ⟨rfl, hw⟩
    · refine ax_catch C (tableOf []) ⟨0, 8, 11, 15⟩ (tableOf []) (ht.trans rfl) (fun z hz => nomatch hz) (by decide) (by decide) q1225 q1242 (fun q7 => o_top (fun σ6 eσ6 => ?_))
      have hw := hw σ6 eσ6
      refine a_astore_2 (pc := 11) C dX0_restore_11 (by decide) rfl ?_
      refine a_iconst (pc := 12) C dX0_restore_12 ic_1 ?_
      exact a_xret (a_iret C dX0_restore_13 (fun h n u hV => ⟨⟨(_, _), rfl, hw, hV⟩, o_end hs hV⟩))
def wp_X0_placeOf (p1 : Nat) (p2 : Int32) (p3 : Nat) (σ : OS) (Q : Int32 → OS → Prop) (X : Nat → OS → Prop) : Prop := (oC σ p1 0 ∧ wp_X1_placeOf p1 p2 σ (fun v2 σ1 => (∃ (n4 : Nat) (f5 : Nat → Int64), σ1.1 p3 = some (.inl (1, n4, .inr (.inl f5))) ∧ vp_in 0 n4 ∧ ∀ σ3 : OS, σ3 = oPut σ1 p3 (.inl (1, n4, .inr (.inl (vp_updL f5 (0 : Int32).toNatClampNeg (v2.toInt64))))) → (Q 0 σ3))) (fun k9 σx => (k9 = 0 ∧ ∀ σ6 : OS, σ6 = oXs σx 0 → (Q 1 σ6))))
theorem sg_X0_placeOf : aSig yX0_placeOf 3 := by decide +kernel
set_option maxHeartbeats 4000000 in
theorem ct_X0_placeOf (l : Launch) (G : aG) (p1 : Nat) (p2 : Int32) (p3 : Nat) (E : Nat → Prop) (σ : OS) (Q : Int32 → OS → Prop) (X : Nat → OS → Prop) (hw : wp_X0_placeOf p1 p2 p3 σ Q X) (h0 : AH) (n0 u0 : Nat) (hB : OB h0 n0 E σ) : CTX l yX0_placeOf (wsW_ yX0_placeOf cX0_placeOf 4 (some .int) [(0, 9, 12, 20)]) 9 G [.ref p1, .int p2, .ref p3] h0 n0 u0 σ.2.2.1 (10 * σ.2.2.1) (o_pi Q h0 n0 u0 E σ.2.2.1) (o_px X h0 E) := by
  refine CTX.introW [some (.ref p1), some (.int p2), some (.ref p3), none] pn_RX0 rfl (Nat.le_of_ble_eq_true rfl) ?_
  intro p e s m args below meth c C hz hu ht
  have hs : s.heap.size = n0 ∧ slT s.heap = u0 := ⟨hz, hu⟩
  refine a_world (V1 := OW h0 n0 u0 E σ.2.2.1 σ) (OW.start hB) ?_
  unfold wp_X0_placeOf at hw
  refine a_aload_2 (pc := 0) C dX0_placeOf_0 ?_
  refine a_iconst (pc := 1) C dX0_placeOf_1 ic_0 ?_
  refine a_aload_0 (pc := 2) C dX0_placeOf_2 ?_
  refine a_iload_1 (pc := 3) C dX0_placeOf_3 ?_
  refine o_callXVi (pc := 4) C hs [.int p2] (b := p1) (ci := 0) (st := [.int 0, .ref p3]) (fun h n u hB => ct_X1_placeOf l G p1 _ E _ _ _ hw.2 h n u hB) (by decide) (by decide) rfl hw.1 q65 q1593 q1594 q1595 (lw_meth q1596) sg_X1_placeOf (Nat.le_of_ble_eq_true rfl) dX0_placeOf_4 (fun v2 σ1 hw => ?_) (fun k9 σx hx => ?_)
  · refine a_i2l (pc := 7) C dX0_placeOf_7 ?_
    obtain ⟨n4, f5, af5, if5, hw⟩ := hw
    refine a_last (pc := 8) C (V1 := OW h0 n0 u0 E σ.2.2.1 (oPut σ1 p3 (.inl (1, n4, .inr (.inl (vp_updL f5 (0 : Int32).toNatClampNeg (v2.toInt64))))))) (fun h n u hV => ⟨o_arr af5 hV, hV.putA af5⟩) if5 dX0_placeOf_8 (o_top (fun σ3 eσ3 => ?_))
    have hw := hw σ3 eσ3
    refine a_goto (pc := 9) C 15 dX0_placeOf_9 (by decide) ?_
    refine a_iconst (pc := 15) C dX0_placeOf_15 ic_0 ?_
    exact a_xret (a_iret C dX0_placeOf_16 (fun h n u hV => ⟨⟨(_, _), rfl, hw, hV⟩, o_end hs hV⟩))
  · rcases hx with ⟨rfl, hw⟩
    · refine ax_catch C (tableOf []) ⟨0, 9, 12, 20⟩ (tableOf []) (ht.trans rfl) (fun z hz => nomatch hz) (by decide) (by decide) q1300 q1320 (fun q7 => o_top (fun σ6 eσ6 => ?_))
      have hw := hw σ6 eσ6
      refine a_astore_3 (pc := 12) C dX0_placeOf_12 (by decide) rfl ?_
      refine a_iconst (pc := 13) C dX0_placeOf_13 ic_1 ?_
      exact a_xret (a_iret C dX0_placeOf_14 (fun h n u hV => ⟨⟨(_, _), rfl, hw, hV⟩, o_end hs hV⟩))
def wp_X0_drumOf (p1 : Nat) (p2 : Int32) (p3 : Nat) (σ : OS) (Q : Int32 → OS → Prop) (X : Nat → OS → Prop) : Prop := (oC σ p1 0 ∧ wp_X1_drumOf p1 p2 σ (fun v2 σ1 => (∃ (n4 : Nat) (f5 : Nat → Int64), σ1.1 p3 = some (.inl (1, n4, .inr (.inl f5))) ∧ vp_in 0 n4 ∧ ∀ σ3 : OS, σ3 = oPut σ1 p3 (.inl (1, n4, .inr (.inl (vp_updL f5 (0 : Int32).toNatClampNeg (v2.toInt64))))) → (Q 0 σ3))) (fun k9 σx => (k9 = 0 ∧ ∀ σ6 : OS, σ6 = oXs σx 0 → (Q 1 σ6))))
theorem sg_X0_drumOf : aSig yX0_drumOf 3 := by decide +kernel
set_option maxHeartbeats 4000000 in
theorem ct_X0_drumOf (l : Launch) (G : aG) (p1 : Nat) (p2 : Int32) (p3 : Nat) (E : Nat → Prop) (σ : OS) (Q : Int32 → OS → Prop) (X : Nat → OS → Prop) (hw : wp_X0_drumOf p1 p2 p3 σ Q X) (h0 : AH) (n0 u0 : Nat) (hB : OB h0 n0 E σ) : CTX l yX0_drumOf (wsW_ yX0_drumOf cX0_drumOf 4 (some .int) [(0, 9, 12, 20)]) 9 G [.ref p1, .int p2, .ref p3] h0 n0 u0 σ.2.2.1 (10 * σ.2.2.1) (o_pi Q h0 n0 u0 E σ.2.2.1) (o_px X h0 E) := by
  refine CTX.introW [some (.ref p1), some (.int p2), some (.ref p3), none] pn_RX0 rfl (Nat.le_of_ble_eq_true rfl) ?_
  intro p e s m args below meth c C hz hu ht
  have hs : s.heap.size = n0 ∧ slT s.heap = u0 := ⟨hz, hu⟩
  refine a_world (V1 := OW h0 n0 u0 E σ.2.2.1 σ) (OW.start hB) ?_
  unfold wp_X0_drumOf at hw
  refine a_aload_2 (pc := 0) C dX0_drumOf_0 ?_
  refine a_iconst (pc := 1) C dX0_drumOf_1 ic_0 ?_
  refine a_aload_0 (pc := 2) C dX0_drumOf_2 ?_
  refine a_iload_1 (pc := 3) C dX0_drumOf_3 ?_
  refine o_callXVi (pc := 4) C hs [.int p2] (b := p1) (ci := 0) (st := [.int 0, .ref p3]) (fun h n u hB => ct_X1_drumOf l G p1 _ E _ _ _ hw.2 h n u hB) (by decide) (by decide) rfl hw.1 q65 q1600 q1601 q1602 (lw_meth q1603) sg_X1_drumOf (Nat.le_of_ble_eq_true rfl) dX0_drumOf_4 (fun v2 σ1 hw => ?_) (fun k9 σx hx => ?_)
  · refine a_i2l (pc := 7) C dX0_drumOf_7 ?_
    obtain ⟨n4, f5, af5, if5, hw⟩ := hw
    refine a_last (pc := 8) C (V1 := OW h0 n0 u0 E σ.2.2.1 (oPut σ1 p3 (.inl (1, n4, .inr (.inl (vp_updL f5 (0 : Int32).toNatClampNeg (v2.toInt64))))))) (fun h n u hV => ⟨o_arr af5 hV, hV.putA af5⟩) if5 dX0_drumOf_8 (o_top (fun σ3 eσ3 => ?_))
    have hw := hw σ3 eσ3
    refine a_goto (pc := 9) C 15 dX0_drumOf_9 (by decide) ?_
    refine a_iconst (pc := 15) C dX0_drumOf_15 ic_0 ?_
    exact a_xret (a_iret C dX0_drumOf_16 (fun h n u hV => ⟨⟨(_, _), rfl, hw, hV⟩, o_end hs hV⟩))
  · rcases hx with ⟨rfl, hw⟩
    · refine ax_catch C (tableOf []) ⟨0, 9, 12, 20⟩ (tableOf []) (ht.trans rfl) (fun z hz => nomatch hz) (by decide) (by decide) q1300 q1320 (fun q7 => o_top (fun σ6 eσ6 => ?_))
      have hw := hw σ6 eσ6
      refine a_astore_3 (pc := 12) C dX0_drumOf_12 (by decide) rfl ?_
      refine a_iconst (pc := 13) C dX0_drumOf_13 ic_1 ?_
      exact a_xret (a_iret C dX0_drumOf_14 (fun h n u hV => ⟨⟨(_, _), rfl, hw, hV⟩, o_end hs hV⟩))
def wp_X0_weightOf (p1 : Nat) (p2 : Int32) (p3 : Nat) (σ : OS) (Q : Int32 → OS → Prop) (X : Nat → OS → Prop) : Prop := (oC σ p1 0 ∧ wp_X1_weightOf p1 p2 σ (fun v2 σ1 => (∃ (n4 : Nat) (f5 : Nat → Int64), σ1.1 p3 = some (.inl (1, n4, .inr (.inl f5))) ∧ vp_in 0 n4 ∧ ∀ σ3 : OS, σ3 = oPut σ1 p3 (.inl (1, n4, .inr (.inl (vp_updL f5 (0 : Int32).toNatClampNeg (v2.toInt64))))) → (Q 0 σ3))) (fun k9 σx => (k9 = 0 ∧ ∀ σ6 : OS, σ6 = oXs σx 0 → (Q 1 σ6))))
theorem sg_X0_weightOf : aSig yX0_weightOf 3 := by decide +kernel
set_option maxHeartbeats 4000000 in
theorem ct_X0_weightOf (l : Launch) (G : aG) (p1 : Nat) (p2 : Int32) (p3 : Nat) (E : Nat → Prop) (σ : OS) (Q : Int32 → OS → Prop) (X : Nat → OS → Prop) (hw : wp_X0_weightOf p1 p2 p3 σ Q X) (h0 : AH) (n0 u0 : Nat) (hB : OB h0 n0 E σ) : CTX l yX0_weightOf (wsW_ yX0_weightOf cX0_weightOf 4 (some .int) [(0, 9, 12, 20)]) 9 G [.ref p1, .int p2, .ref p3] h0 n0 u0 σ.2.2.1 (10 * σ.2.2.1) (o_pi Q h0 n0 u0 E σ.2.2.1) (o_px X h0 E) := by
  refine CTX.introW [some (.ref p1), some (.int p2), some (.ref p3), none] pn_RX0 rfl (Nat.le_of_ble_eq_true rfl) ?_
  intro p e s m args below meth c C hz hu ht
  have hs : s.heap.size = n0 ∧ slT s.heap = u0 := ⟨hz, hu⟩
  refine a_world (V1 := OW h0 n0 u0 E σ.2.2.1 σ) (OW.start hB) ?_
  unfold wp_X0_weightOf at hw
  refine a_aload_2 (pc := 0) C dX0_weightOf_0 ?_
  refine a_iconst (pc := 1) C dX0_weightOf_1 ic_0 ?_
  refine a_aload_0 (pc := 2) C dX0_weightOf_2 ?_
  refine a_iload_1 (pc := 3) C dX0_weightOf_3 ?_
  refine o_callXVi (pc := 4) C hs [.int p2] (b := p1) (ci := 0) (st := [.int 0, .ref p3]) (fun h n u hB => ct_X1_weightOf l G p1 _ E _ _ _ hw.2 h n u hB) (by decide) (by decide) rfl hw.1 q65 q1608 q1609 q1610 (lw_meth q1611) sg_X1_weightOf (Nat.le_of_ble_eq_true rfl) dX0_weightOf_4 (fun v2 σ1 hw => ?_) (fun k9 σx hx => ?_)
  · refine a_i2l (pc := 7) C dX0_weightOf_7 ?_
    obtain ⟨n4, f5, af5, if5, hw⟩ := hw
    refine a_last (pc := 8) C (V1 := OW h0 n0 u0 E σ.2.2.1 (oPut σ1 p3 (.inl (1, n4, .inr (.inl (vp_updL f5 (0 : Int32).toNatClampNeg (v2.toInt64))))))) (fun h n u hV => ⟨o_arr af5 hV, hV.putA af5⟩) if5 dX0_weightOf_8 (o_top (fun σ3 eσ3 => ?_))
    have hw := hw σ3 eσ3
    refine a_goto (pc := 9) C 15 dX0_weightOf_9 (by decide) ?_
    refine a_iconst (pc := 15) C dX0_weightOf_15 ic_0 ?_
    exact a_xret (a_iret C dX0_weightOf_16 (fun h n u hV => ⟨⟨(_, _), rfl, hw, hV⟩, o_end hs hV⟩))
  · rcases hx with ⟨rfl, hw⟩
    · refine ax_catch C (tableOf []) ⟨0, 9, 12, 20⟩ (tableOf []) (ht.trans rfl) (fun z hz => nomatch hz) (by decide) (by decide) q1300 q1320 (fun q7 => o_top (fun σ6 eσ6 => ?_))
      have hw := hw σ6 eσ6
      refine a_astore_3 (pc := 12) C dX0_weightOf_12 (by decide) rfl ?_
      refine a_iconst (pc := 13) C dX0_weightOf_13 ic_1 ?_
      exact a_xret (a_iret C dX0_weightOf_14 (fun h n u hV => ⟨⟨(_, _), rfl, hw, hV⟩, o_end hs hV⟩))
def wp_X0_wetnessOf (p1 : Nat) (p2 : Int32) (p3 : Nat) (σ : OS) (Q : Int32 → OS → Prop) (X : Nat → OS → Prop) : Prop := (oC σ p1 0 ∧ wp_X1_wetnessOf p1 p2 σ (fun v2 σ1 => (∃ (n4 : Nat) (f5 : Nat → Int64), σ1.1 p3 = some (.inl (1, n4, .inr (.inl f5))) ∧ vp_in 0 n4 ∧ ∀ σ3 : OS, σ3 = oPut σ1 p3 (.inl (1, n4, .inr (.inl (vp_updL f5 (0 : Int32).toNatClampNeg (v2.toInt64))))) → (Q 0 σ3))) (fun k9 σx => (k9 = 0 ∧ ∀ σ6 : OS, σ6 = oXs σx 0 → (Q 1 σ6))))
theorem sg_X0_wetnessOf : aSig yX0_wetnessOf 3 := by decide +kernel
set_option maxHeartbeats 4000000 in
theorem ct_X0_wetnessOf (l : Launch) (G : aG) (p1 : Nat) (p2 : Int32) (p3 : Nat) (E : Nat → Prop) (σ : OS) (Q : Int32 → OS → Prop) (X : Nat → OS → Prop) (hw : wp_X0_wetnessOf p1 p2 p3 σ Q X) (h0 : AH) (n0 u0 : Nat) (hB : OB h0 n0 E σ) : CTX l yX0_wetnessOf (wsW_ yX0_wetnessOf cX0_wetnessOf 4 (some .int) [(0, 9, 12, 20)]) 9 G [.ref p1, .int p2, .ref p3] h0 n0 u0 σ.2.2.1 (10 * σ.2.2.1) (o_pi Q h0 n0 u0 E σ.2.2.1) (o_px X h0 E) := by
  refine CTX.introW [some (.ref p1), some (.int p2), some (.ref p3), none] pn_RX0 rfl (Nat.le_of_ble_eq_true rfl) ?_
  intro p e s m args below meth c C hz hu ht
  have hs : s.heap.size = n0 ∧ slT s.heap = u0 := ⟨hz, hu⟩
  refine a_world (V1 := OW h0 n0 u0 E σ.2.2.1 σ) (OW.start hB) ?_
  unfold wp_X0_wetnessOf at hw
  refine a_aload_2 (pc := 0) C dX0_wetnessOf_0 ?_
  refine a_iconst (pc := 1) C dX0_wetnessOf_1 ic_0 ?_
  refine a_aload_0 (pc := 2) C dX0_wetnessOf_2 ?_
  refine a_iload_1 (pc := 3) C dX0_wetnessOf_3 ?_
  refine o_callXVi (pc := 4) C hs [.int p2] (b := p1) (ci := 0) (st := [.int 0, .ref p3]) (fun h n u hB => ct_X1_wetnessOf l G p1 _ E _ _ _ hw.2 h n u hB) (by decide) (by decide) rfl hw.1 q65 q1615 q1616 q1617 (lw_meth q1618) sg_X1_wetnessOf (Nat.le_of_ble_eq_true rfl) dX0_wetnessOf_4 (fun v2 σ1 hw => ?_) (fun k9 σx hx => ?_)
  · refine a_i2l (pc := 7) C dX0_wetnessOf_7 ?_
    obtain ⟨n4, f5, af5, if5, hw⟩ := hw
    refine a_last (pc := 8) C (V1 := OW h0 n0 u0 E σ.2.2.1 (oPut σ1 p3 (.inl (1, n4, .inr (.inl (vp_updL f5 (0 : Int32).toNatClampNeg (v2.toInt64))))))) (fun h n u hV => ⟨o_arr af5 hV, hV.putA af5⟩) if5 dX0_wetnessOf_8 (o_top (fun σ3 eσ3 => ?_))
    have hw := hw σ3 eσ3
    refine a_goto (pc := 9) C 15 dX0_wetnessOf_9 (by decide) ?_
    refine a_iconst (pc := 15) C dX0_wetnessOf_15 ic_0 ?_
    exact a_xret (a_iret C dX0_wetnessOf_16 (fun h n u hV => ⟨⟨(_, _), rfl, hw, hV⟩, o_end hs hV⟩))
  · rcases hx with ⟨rfl, hw⟩
    · refine ax_catch C (tableOf []) ⟨0, 9, 12, 20⟩ (tableOf []) (ht.trans rfl) (fun z hz => nomatch hz) (by decide) (by decide) q1300 q1320 (fun q7 => o_top (fun σ6 eσ6 => ?_))
      have hw := hw σ6 eσ6
      refine a_astore_3 (pc := 12) C dX0_wetnessOf_12 (by decide) rfl ?_
      refine a_iconst (pc := 13) C dX0_wetnessOf_13 ic_1 ?_
      exact a_xret (a_iret C dX0_wetnessOf_14 (fun h n u hV => ⟨⟨(_, _), rfl, hw, hV⟩, o_end hs hV⟩))
def wp_X0_growthOf (p1 : Nat) (p2 : Int32) (p3 : Nat) (σ : OS) (Q : Int32 → OS → Prop) (X : Nat → OS → Prop) : Prop := (oC σ p1 0 ∧ wp_X1_growthOf p1 p2 σ (fun v2 σ1 => (∃ (n4 : Nat) (f5 : Nat → Int64), σ1.1 p3 = some (.inl (1, n4, .inr (.inl f5))) ∧ vp_in 0 n4 ∧ ∀ σ3 : OS, σ3 = oPut σ1 p3 (.inl (1, n4, .inr (.inl (vp_updL f5 (0 : Int32).toNatClampNeg (v2.toInt64))))) → (Q 0 σ3))) (fun k9 σx => (k9 = 0 ∧ ∀ σ6 : OS, σ6 = oXs σx 0 → (Q 1 σ6))))
theorem sg_X0_growthOf : aSig yX0_growthOf 3 := by decide +kernel
set_option maxHeartbeats 4000000 in
theorem ct_X0_growthOf (l : Launch) (G : aG) (p1 : Nat) (p2 : Int32) (p3 : Nat) (E : Nat → Prop) (σ : OS) (Q : Int32 → OS → Prop) (X : Nat → OS → Prop) (hw : wp_X0_growthOf p1 p2 p3 σ Q X) (h0 : AH) (n0 u0 : Nat) (hB : OB h0 n0 E σ) : CTX l yX0_growthOf (wsW_ yX0_growthOf cX0_growthOf 4 (some .int) [(0, 9, 12, 20)]) 9 G [.ref p1, .int p2, .ref p3] h0 n0 u0 σ.2.2.1 (10 * σ.2.2.1) (o_pi Q h0 n0 u0 E σ.2.2.1) (o_px X h0 E) := by
  refine CTX.introW [some (.ref p1), some (.int p2), some (.ref p3), none] pn_RX0 rfl (Nat.le_of_ble_eq_true rfl) ?_
  intro p e s m args below meth c C hz hu ht
  have hs : s.heap.size = n0 ∧ slT s.heap = u0 := ⟨hz, hu⟩
  refine a_world (V1 := OW h0 n0 u0 E σ.2.2.1 σ) (OW.start hB) ?_
  unfold wp_X0_growthOf at hw
  refine a_aload_2 (pc := 0) C dX0_growthOf_0 ?_
  refine a_iconst (pc := 1) C dX0_growthOf_1 ic_0 ?_
  refine a_aload_0 (pc := 2) C dX0_growthOf_2 ?_
  refine a_iload_1 (pc := 3) C dX0_growthOf_3 ?_
  refine o_callXVi (pc := 4) C hs [.int p2] (b := p1) (ci := 0) (st := [.int 0, .ref p3]) (fun h n u hB => ct_X1_growthOf l G p1 _ E _ _ _ hw.2 h n u hB) (by decide) (by decide) rfl hw.1 q65 q1622 q1623 q1624 (lw_meth q1625) sg_X1_growthOf (Nat.le_of_ble_eq_true rfl) dX0_growthOf_4 (fun v2 σ1 hw => ?_) (fun k9 σx hx => ?_)
  · refine a_i2l (pc := 7) C dX0_growthOf_7 ?_
    obtain ⟨n4, f5, af5, if5, hw⟩ := hw
    refine a_last (pc := 8) C (V1 := OW h0 n0 u0 E σ.2.2.1 (oPut σ1 p3 (.inl (1, n4, .inr (.inl (vp_updL f5 (0 : Int32).toNatClampNeg (v2.toInt64))))))) (fun h n u hV => ⟨o_arr af5 hV, hV.putA af5⟩) if5 dX0_growthOf_8 (o_top (fun σ3 eσ3 => ?_))
    have hw := hw σ3 eσ3
    refine a_goto (pc := 9) C 15 dX0_growthOf_9 (by decide) ?_
    refine a_iconst (pc := 15) C dX0_growthOf_15 ic_0 ?_
    exact a_xret (a_iret C dX0_growthOf_16 (fun h n u hV => ⟨⟨(_, _), rfl, hw, hV⟩, o_end hs hV⟩))
  · rcases hx with ⟨rfl, hw⟩
    · refine ax_catch C (tableOf []) ⟨0, 9, 12, 20⟩ (tableOf []) (ht.trans rfl) (fun z hz => nomatch hz) (by decide) (by decide) q1300 q1320 (fun q7 => o_top (fun σ6 eσ6 => ?_))
      have hw := hw σ6 eσ6
      refine a_astore_3 (pc := 12) C dX0_growthOf_12 (by decide) rfl ?_
      refine a_iconst (pc := 13) C dX0_growthOf_13 ic_1 ?_
      exact a_xret (a_iret C dX0_growthOf_14 (fun h n u hV => ⟨⟨(_, _), rfl, hw, hV⟩, o_end hs hV⟩))
def wp_X0_heatOf (p1 : Nat) (p2 : Int32) (p3 : Nat) (σ : OS) (Q : Int32 → OS → Prop) (X : Nat → OS → Prop) : Prop := (oC σ p1 0 ∧ wp_X1_heatOf p1 p2 σ (fun v2 σ1 => (∃ (n4 : Nat) (f5 : Nat → Int64), σ1.1 p3 = some (.inl (1, n4, .inr (.inl f5))) ∧ vp_in 0 n4 ∧ ∀ σ3 : OS, σ3 = oPut σ1 p3 (.inl (1, n4, .inr (.inl (vp_updL f5 (0 : Int32).toNatClampNeg (v2.toInt64))))) → (Q 0 σ3))) (fun k9 σx => (k9 = 0 ∧ ∀ σ6 : OS, σ6 = oXs σx 0 → (Q 1 σ6))))
theorem sg_X0_heatOf : aSig yX0_heatOf 3 := by decide +kernel
set_option maxHeartbeats 4000000 in
theorem ct_X0_heatOf (l : Launch) (G : aG) (p1 : Nat) (p2 : Int32) (p3 : Nat) (E : Nat → Prop) (σ : OS) (Q : Int32 → OS → Prop) (X : Nat → OS → Prop) (hw : wp_X0_heatOf p1 p2 p3 σ Q X) (h0 : AH) (n0 u0 : Nat) (hB : OB h0 n0 E σ) : CTX l yX0_heatOf (wsW_ yX0_heatOf cX0_heatOf 4 (some .int) [(0, 9, 12, 20)]) 9 G [.ref p1, .int p2, .ref p3] h0 n0 u0 σ.2.2.1 (10 * σ.2.2.1) (o_pi Q h0 n0 u0 E σ.2.2.1) (o_px X h0 E) := by
  refine CTX.introW [some (.ref p1), some (.int p2), some (.ref p3), none] pn_RX0 rfl (Nat.le_of_ble_eq_true rfl) ?_
  intro p e s m args below meth c C hz hu ht
  have hs : s.heap.size = n0 ∧ slT s.heap = u0 := ⟨hz, hu⟩
  refine a_world (V1 := OW h0 n0 u0 E σ.2.2.1 σ) (OW.start hB) ?_
  unfold wp_X0_heatOf at hw
  refine a_aload_2 (pc := 0) C dX0_heatOf_0 ?_
  refine a_iconst (pc := 1) C dX0_heatOf_1 ic_0 ?_
  refine a_aload_0 (pc := 2) C dX0_heatOf_2 ?_
  refine a_iload_1 (pc := 3) C dX0_heatOf_3 ?_
  refine o_callXVi (pc := 4) C hs [.int p2] (b := p1) (ci := 0) (st := [.int 0, .ref p3]) (fun h n u hB => ct_X1_heatOf l G p1 _ E _ _ _ hw.2 h n u hB) (by decide) (by decide) rfl hw.1 q65 q1629 q1630 q1631 (lw_meth q1632) sg_X1_heatOf (Nat.le_of_ble_eq_true rfl) dX0_heatOf_4 (fun v2 σ1 hw => ?_) (fun k9 σx hx => ?_)
  · refine a_i2l (pc := 7) C dX0_heatOf_7 ?_
    obtain ⟨n4, f5, af5, if5, hw⟩ := hw
    refine a_last (pc := 8) C (V1 := OW h0 n0 u0 E σ.2.2.1 (oPut σ1 p3 (.inl (1, n4, .inr (.inl (vp_updL f5 (0 : Int32).toNatClampNeg (v2.toInt64))))))) (fun h n u hV => ⟨o_arr af5 hV, hV.putA af5⟩) if5 dX0_heatOf_8 (o_top (fun σ3 eσ3 => ?_))
    have hw := hw σ3 eσ3
    refine a_goto (pc := 9) C 15 dX0_heatOf_9 (by decide) ?_
    refine a_iconst (pc := 15) C dX0_heatOf_15 ic_0 ?_
    exact a_xret (a_iret C dX0_heatOf_16 (fun h n u hV => ⟨⟨(_, _), rfl, hw, hV⟩, o_end hs hV⟩))
  · rcases hx with ⟨rfl, hw⟩
    · refine ax_catch C (tableOf []) ⟨0, 9, 12, 20⟩ (tableOf []) (ht.trans rfl) (fun z hz => nomatch hz) (by decide) (by decide) q1300 q1320 (fun q7 => o_top (fun σ6 eσ6 => ?_))
      have hw := hw σ6 eσ6
      refine a_astore_3 (pc := 12) C dX0_heatOf_12 (by decide) rfl ?_
      refine a_iconst (pc := 13) C dX0_heatOf_13 ic_1 ?_
      exact a_xret (a_iret C dX0_heatOf_14 (fun h n u hV => ⟨⟨(_, _), rfl, hw, hV⟩, o_end hs hV⟩))
def wp_X0_feltOf (p1 : Nat) (p2 : Int32) (p3 : Nat) (σ : OS) (Q : Int32 → OS → Prop) (X : Nat → OS → Prop) : Prop := (oC σ p1 0 ∧ wp_X1_feltOf p1 p2 σ (fun v2 σ1 => (∃ (n4 : Nat) (f5 : Nat → Int64), σ1.1 p3 = some (.inl (1, n4, .inr (.inl f5))) ∧ vp_in 0 n4 ∧ ∀ σ3 : OS, σ3 = oPut σ1 p3 (.inl (1, n4, .inr (.inl (vp_updL f5 (0 : Int32).toNatClampNeg (v2.toInt64))))) → (Q 0 σ3))) (fun k9 σx => (k9 = 0 ∧ ∀ σ6 : OS, σ6 = oXs σx 0 → (Q 1 σ6))))
theorem sg_X0_feltOf : aSig yX0_feltOf 3 := by decide +kernel
set_option maxHeartbeats 4000000 in
theorem ct_X0_feltOf (l : Launch) (G : aG) (p1 : Nat) (p2 : Int32) (p3 : Nat) (E : Nat → Prop) (σ : OS) (Q : Int32 → OS → Prop) (X : Nat → OS → Prop) (hw : wp_X0_feltOf p1 p2 p3 σ Q X) (h0 : AH) (n0 u0 : Nat) (hB : OB h0 n0 E σ) : CTX l yX0_feltOf (wsW_ yX0_feltOf cX0_feltOf 4 (some .int) [(0, 9, 12, 20)]) 9 G [.ref p1, .int p2, .ref p3] h0 n0 u0 σ.2.2.1 (10 * σ.2.2.1) (o_pi Q h0 n0 u0 E σ.2.2.1) (o_px X h0 E) := by
  refine CTX.introW [some (.ref p1), some (.int p2), some (.ref p3), none] pn_RX0 rfl (Nat.le_of_ble_eq_true rfl) ?_
  intro p e s m args below meth c C hz hu ht
  have hs : s.heap.size = n0 ∧ slT s.heap = u0 := ⟨hz, hu⟩
  refine a_world (V1 := OW h0 n0 u0 E σ.2.2.1 σ) (OW.start hB) ?_
  unfold wp_X0_feltOf at hw
  refine a_aload_2 (pc := 0) C dX0_feltOf_0 ?_
  refine a_iconst (pc := 1) C dX0_feltOf_1 ic_0 ?_
  refine a_aload_0 (pc := 2) C dX0_feltOf_2 ?_
  refine a_iload_1 (pc := 3) C dX0_feltOf_3 ?_
  refine o_callXVi (pc := 4) C hs [.int p2] (b := p1) (ci := 0) (st := [.int 0, .ref p3]) (fun h n u hB => ct_X1_feltOf l G p1 _ E _ _ _ hw.2 h n u hB) (by decide) (by decide) rfl hw.1 q65 q1636 q1637 q1638 (lw_meth q1639) sg_X1_feltOf (Nat.le_of_ble_eq_true rfl) dX0_feltOf_4 (fun v2 σ1 hw => ?_) (fun k9 σx hx => ?_)
  · refine a_i2l (pc := 7) C dX0_feltOf_7 ?_
    obtain ⟨n4, f5, af5, if5, hw⟩ := hw
    refine a_last (pc := 8) C (V1 := OW h0 n0 u0 E σ.2.2.1 (oPut σ1 p3 (.inl (1, n4, .inr (.inl (vp_updL f5 (0 : Int32).toNatClampNeg (v2.toInt64))))))) (fun h n u hV => ⟨o_arr af5 hV, hV.putA af5⟩) if5 dX0_feltOf_8 (o_top (fun σ3 eσ3 => ?_))
    have hw := hw σ3 eσ3
    refine a_goto (pc := 9) C 15 dX0_feltOf_9 (by decide) ?_
    refine a_iconst (pc := 15) C dX0_feltOf_15 ic_0 ?_
    exact a_xret (a_iret C dX0_feltOf_16 (fun h n u hV => ⟨⟨(_, _), rfl, hw, hV⟩, o_end hs hV⟩))
  · rcases hx with ⟨rfl, hw⟩
    · refine ax_catch C (tableOf []) ⟨0, 9, 12, 20⟩ (tableOf []) (ht.trans rfl) (fun z hz => nomatch hz) (by decide) (by decide) q1300 q1320 (fun q7 => o_top (fun σ6 eσ6 => ?_))
      have hw := hw σ6 eσ6
      refine a_astore_3 (pc := 12) C dX0_feltOf_12 (by decide) rfl ?_
      refine a_iconst (pc := 13) C dX0_feltOf_13 ic_1 ?_
      exact a_xret (a_iret C dX0_feltOf_14 (fun h n u hV => ⟨⟨(_, _), rfl, hw, hV⟩, o_end hs hV⟩))
def wp_X0_isGlassy (p1 : Nat) (p2 : Int32) (p3 : Nat) (σ : OS) (Q : Int32 → OS → Prop) (X : Nat → OS → Prop) : Prop := (oC σ p1 0 ∧ wp_X1_isGlassy p1 p2 σ (fun v2 σ1 => (((v2 = 0) → (∃ (n5 : Nat) (f6 : Nat → Int64), σ1.1 p3 = some (.inl (1, n5, .inr (.inl f6))) ∧ vp_in 0 n5 ∧ ∀ σ4 : OS, σ4 = oPut σ1 p3 (.inl (1, n5, .inr (.inl (vp_updL f6 (0 : Int32).toNatClampNeg ((0 : Int64)))))) → (Q 0 σ4))) ∧ ((¬ v2 = 0) → (∃ (n8 : Nat) (f9 : Nat → Int64), σ1.1 p3 = some (.inl (1, n8, .inr (.inl f9))) ∧ vp_in 0 n8 ∧ ∀ σ7 : OS, σ7 = oPut σ1 p3 (.inl (1, n8, .inr (.inl (vp_updL f9 (0 : Int32).toNatClampNeg ((1 : Int64)))))) → (Q 0 σ7))))) (fun k9 σx => (k9 = 0 ∧ ∀ σ10 : OS, σ10 = oXs σx 0 → (Q 1 σ10))))
theorem sg_X0_isGlassy : aSig yX0_isGlassy 3 := by decide +kernel
set_option maxHeartbeats 4000000 in
theorem ct_X0_isGlassy (l : Launch) (G : aG) (p1 : Nat) (p2 : Int32) (p3 : Nat) (E : Nat → Prop) (σ : OS) (Q : Int32 → OS → Prop) (X : Nat → OS → Prop) (hw : wp_X0_isGlassy p1 p2 p3 σ Q X) (h0 : AH) (n0 u0 : Nat) (hB : OB h0 n0 E σ) : CTX l yX0_isGlassy (wsW_ yX0_isGlassy cX0_isGlassy 4 (some .int) [(0, 16, 19, 20)]) 9 G [.ref p1, .int p2, .ref p3] h0 n0 u0 σ.2.2.1 (10 * σ.2.2.1) (o_pi Q h0 n0 u0 E σ.2.2.1) (o_px X h0 E) := by
  refine CTX.introW [some (.ref p1), some (.int p2), some (.ref p3), none] pn_RX0 rfl (Nat.le_of_ble_eq_true rfl) ?_
  intro p e s m args below meth c C hz hu ht
  have hs : s.heap.size = n0 ∧ slT s.heap = u0 := ⟨hz, hu⟩
  refine a_world (V1 := OW h0 n0 u0 E σ.2.2.1 σ) (OW.start hB) ?_
  unfold wp_X0_isGlassy at hw
  refine a_aload_2 (pc := 0) C dX0_isGlassy_0 ?_
  refine a_iconst (pc := 1) C dX0_isGlassy_1 ic_0 ?_
  refine a_aload_0 (pc := 2) C dX0_isGlassy_2 ?_
  refine a_iload_1 (pc := 3) C dX0_isGlassy_3 ?_
  refine o_callXVi (pc := 4) C hs [.int p2] (b := p1) (ci := 0) (st := [.int 0, .ref p3]) (fun h n u hB => ct_X1_isGlassy l G p1 _ E _ _ _ hw.2 h n u hB) (by decide) (by decide) rfl hw.1 q65 q1643 q1644 q1645 (lw_meth q1646) sg_X1_isGlassy (Nat.le_of_ble_eq_true rfl) dX0_isGlassy_4 (fun v2 σ1 hw => ?_) (fun k9 σx hx => ?_)
  · refine a_if_eq (pc := 7) C 14 dX0_isGlassy_7 (by decide) (fun c3 => ?_) (fun c3 => ?_)
    · have hw := hw.1 c3
      refine a_lconst (pc := 14) (v := 0) C dX0_isGlassy_14 (by decide) ?_
      obtain ⟨n5, f6, af6, if6, hw⟩ := hw
      refine a_last (pc := 15) C (V1 := OW h0 n0 u0 E σ.2.2.1 (oPut σ1 p3 (.inl (1, n5, .inr (.inl (vp_updL f6 (0 : Int32).toNatClampNeg ((0 : Int64)))))))) (fun h n u hV => ⟨o_arr af6 hV, hV.putA af6⟩) if6 dX0_isGlassy_15 (o_top (fun σ4 eσ4 => ?_))
      have hw := hw σ4 eσ4
      refine a_goto (pc := 16) C 22 dX0_isGlassy_16 (by decide) ?_
      refine a_iconst (pc := 22) C dX0_isGlassy_22 ic_0 ?_
      exact a_xret (a_iret C dX0_isGlassy_23 (fun h n u hV => ⟨⟨(_, _), rfl, hw, hV⟩, o_end hs hV⟩))
    · have hw := hw.2 c3
      refine a_lconst (pc := 10) (v := 1) C dX0_isGlassy_10 (by decide) ?_
      refine a_goto (pc := 11) C 15 dX0_isGlassy_11 (by decide) ?_
      obtain ⟨n8, f9, af9, if9, hw⟩ := hw
      refine a_last (pc := 15) C (V1 := OW h0 n0 u0 E σ.2.2.1 (oPut σ1 p3 (.inl (1, n8, .inr (.inl (vp_updL f9 (0 : Int32).toNatClampNeg ((1 : Int64)))))))) (fun h n u hV => ⟨o_arr af9 hV, hV.putA af9⟩) if9 dX0_isGlassy_15 (o_top (fun σ7 eσ7 => ?_))
      have hw := hw σ7 eσ7
      refine a_goto (pc := 16) C 22 dX0_isGlassy_16 (by decide) ?_
      refine a_iconst (pc := 22) C dX0_isGlassy_22 ic_0 ?_
      exact a_xret (a_iret C dX0_isGlassy_23 (fun h n u hV => ⟨⟨(_, _), rfl, hw, hV⟩, o_end hs hV⟩))
  · rcases hx with ⟨rfl, hw⟩
    · refine ax_catch C (tableOf []) ⟨0, 16, 19, 20⟩ (tableOf []) (ht.trans rfl) (fun z hz => nomatch hz) (by decide) (by decide) q1300 q1320 (fun q11 => o_top (fun σ10 eσ10 => ?_))
      have hw := hw σ10 eσ10
      refine a_astore_3 (pc := 19) C dX0_isGlassy_19 (by decide) rfl ?_
      refine a_iconst (pc := 20) C dX0_isGlassy_20 ic_1 ?_
      exact a_xret (a_iret C dX0_isGlassy_21 (fun h n u hV => ⟨⟨(_, _), rfl, hw, hV⟩, o_end hs hV⟩))
def wp_X0_paceOf (p1 : Nat) (p2 : Int32) (p3 : Nat) (σ : OS) (Q : Int32 → OS → Prop) (X : Nat → OS → Prop) : Prop := (oC σ p1 0 ∧ wp_X1_paceOf p1 p2 σ (fun v2 σ1 => (∃ (n4 : Nat) (f5 : Nat → Int64), σ1.1 p3 = some (.inl (1, n4, .inr (.inl f5))) ∧ vp_in 0 n4 ∧ ∀ σ3 : OS, σ3 = oPut σ1 p3 (.inl (1, n4, .inr (.inl (vp_updL f5 (0 : Int32).toNatClampNeg (v2.toInt64))))) → (Q 0 σ3))) (fun k9 σx => (k9 = 0 ∧ ∀ σ6 : OS, σ6 = oXs σx 0 → (Q 1 σ6))))
theorem sg_X0_paceOf : aSig yX0_paceOf 3 := by decide +kernel
set_option maxHeartbeats 4000000 in
theorem ct_X0_paceOf (l : Launch) (G : aG) (p1 : Nat) (p2 : Int32) (p3 : Nat) (E : Nat → Prop) (σ : OS) (Q : Int32 → OS → Prop) (X : Nat → OS → Prop) (hw : wp_X0_paceOf p1 p2 p3 σ Q X) (h0 : AH) (n0 u0 : Nat) (hB : OB h0 n0 E σ) : CTX l yX0_paceOf (wsW_ yX0_paceOf cX0_paceOf 4 (some .int) [(0, 9, 12, 20)]) 9 G [.ref p1, .int p2, .ref p3] h0 n0 u0 σ.2.2.1 (10 * σ.2.2.1) (o_pi Q h0 n0 u0 E σ.2.2.1) (o_px X h0 E) := by
  refine CTX.introW [some (.ref p1), some (.int p2), some (.ref p3), none] pn_RX0 rfl (Nat.le_of_ble_eq_true rfl) ?_
  intro p e s m args below meth c C hz hu ht
  have hs : s.heap.size = n0 ∧ slT s.heap = u0 := ⟨hz, hu⟩
  refine a_world (V1 := OW h0 n0 u0 E σ.2.2.1 σ) (OW.start hB) ?_
  unfold wp_X0_paceOf at hw
  refine a_aload_2 (pc := 0) C dX0_paceOf_0 ?_
  refine a_iconst (pc := 1) C dX0_paceOf_1 ic_0 ?_
  refine a_aload_0 (pc := 2) C dX0_paceOf_2 ?_
  refine a_iload_1 (pc := 3) C dX0_paceOf_3 ?_
  refine o_callXVi (pc := 4) C hs [.int p2] (b := p1) (ci := 0) (st := [.int 0, .ref p3]) (fun h n u hB => ct_X1_paceOf l G p1 _ E _ _ _ hw.2 h n u hB) (by decide) (by decide) rfl hw.1 q65 q1650 q1651 q1652 (lw_meth q1653) sg_X1_paceOf (Nat.le_of_ble_eq_true rfl) dX0_paceOf_4 (fun v2 σ1 hw => ?_) (fun k9 σx hx => ?_)
  · refine a_i2l (pc := 7) C dX0_paceOf_7 ?_
    obtain ⟨n4, f5, af5, if5, hw⟩ := hw
    refine a_last (pc := 8) C (V1 := OW h0 n0 u0 E σ.2.2.1 (oPut σ1 p3 (.inl (1, n4, .inr (.inl (vp_updL f5 (0 : Int32).toNatClampNeg (v2.toInt64))))))) (fun h n u hV => ⟨o_arr af5 hV, hV.putA af5⟩) if5 dX0_paceOf_8 (o_top (fun σ3 eσ3 => ?_))
    have hw := hw σ3 eσ3
    refine a_goto (pc := 9) C 15 dX0_paceOf_9 (by decide) ?_
    refine a_iconst (pc := 15) C dX0_paceOf_15 ic_0 ?_
    exact a_xret (a_iret C dX0_paceOf_16 (fun h n u hV => ⟨⟨(_, _), rfl, hw, hV⟩, o_end hs hV⟩))
  · rcases hx with ⟨rfl, hw⟩
    · refine ax_catch C (tableOf []) ⟨0, 9, 12, 20⟩ (tableOf []) (ht.trans rfl) (fun z hz => nomatch hz) (by decide) (by decide) q1300 q1320 (fun q7 => o_top (fun σ6 eσ6 => ?_))
      have hw := hw σ6 eσ6
      refine a_astore_3 (pc := 12) C dX0_paceOf_12 (by decide) rfl ?_
      refine a_iconst (pc := 13) C dX0_paceOf_13 ic_1 ?_
      exact a_xret (a_iret C dX0_paceOf_14 (fun h n u hV => ⟨⟨(_, _), rfl, hw, hV⟩, o_end hs hV⟩))
def wp_X0_lotsIn (p1 : Nat) (p2 : Int32) (p3 : Nat) (σ : OS) (Q : Int32 → OS → Prop) (X : Nat → OS → Prop) : Prop := (oC σ p1 0 ∧ wp_X1_lotsIn p1 p2 σ (fun v2 σ1 => (∃ (n4 : Nat) (f5 : Nat → Int64), σ1.1 p3 = some (.inl (1, n4, .inr (.inl f5))) ∧ vp_in 0 n4 ∧ ∀ σ3 : OS, σ3 = oPut σ1 p3 (.inl (1, n4, .inr (.inl (vp_updL f5 (0 : Int32).toNatClampNeg (v2.toInt64))))) → (Q 0 σ3))) (fun k9 σx => (k9 = 1 ∧ ∀ σ6 : OS, σ6 = oXs σx 0 → (Q 1 σ6))))
theorem sg_X0_lotsIn : aSig yX0_lotsIn 3 := by decide +kernel
set_option maxHeartbeats 4000000 in
theorem ct_X0_lotsIn (l : Launch) (G : aG) (p1 : Nat) (p2 : Int32) (p3 : Nat) (E : Nat → Prop) (σ : OS) (Q : Int32 → OS → Prop) (X : Nat → OS → Prop) (hw : wp_X0_lotsIn p1 p2 p3 σ Q X) (h0 : AH) (n0 u0 : Nat) (hB : OB h0 n0 E σ) : CTX l yX0_lotsIn (wsW_ yX0_lotsIn cX0_lotsIn 4 (some .int) [(0, 9, 12, 13)]) 8 G [.ref p1, .int p2, .ref p3] h0 n0 u0 σ.2.2.1 (10 * σ.2.2.1) (o_pi Q h0 n0 u0 E σ.2.2.1) (o_px X h0 E) := by
  refine CTX.introW [some (.ref p1), some (.int p2), some (.ref p3), none] pn_RX0 rfl (Nat.le_of_ble_eq_true rfl) ?_
  intro p e s m args below meth c C hz hu ht
  have hs : s.heap.size = n0 ∧ slT s.heap = u0 := ⟨hz, hu⟩
  refine a_world (V1 := OW h0 n0 u0 E σ.2.2.1 σ) (OW.start hB) ?_
  unfold wp_X0_lotsIn at hw
  refine a_aload_2 (pc := 0) C dX0_lotsIn_0 ?_
  refine a_iconst (pc := 1) C dX0_lotsIn_1 ic_0 ?_
  refine a_aload_0 (pc := 2) C dX0_lotsIn_2 ?_
  refine a_iload_1 (pc := 3) C dX0_lotsIn_3 ?_
  refine o_callXVi (pc := 4) C hs [.int p2] (b := p1) (ci := 0) (st := [.int 0, .ref p3]) (fun h n u hB => ct_X1_lotsIn l G p1 _ E _ _ _ hw.2 h n u hB) (by decide) (by decide) rfl hw.1 q65 q1658 q1659 q1660 (lw_meth q1661) sg_X1_lotsIn (Nat.le_of_ble_eq_true rfl) dX0_lotsIn_4 (fun v2 σ1 hw => ?_) (fun k9 σx hx => ?_)
  · refine a_i2l (pc := 7) C dX0_lotsIn_7 ?_
    obtain ⟨n4, f5, af5, if5, hw⟩ := hw
    refine a_last (pc := 8) C (V1 := OW h0 n0 u0 E σ.2.2.1 (oPut σ1 p3 (.inl (1, n4, .inr (.inl (vp_updL f5 (0 : Int32).toNatClampNeg (v2.toInt64))))))) (fun h n u hV => ⟨o_arr af5 hV, hV.putA af5⟩) if5 dX0_lotsIn_8 (o_top (fun σ3 eσ3 => ?_))
    have hw := hw σ3 eσ3
    refine a_goto (pc := 9) C 15 dX0_lotsIn_9 (by decide) ?_
    refine a_iconst (pc := 15) C dX0_lotsIn_15 ic_0 ?_
    exact a_xret (a_iret C dX0_lotsIn_16 (fun h n u hV => ⟨⟨(_, _), rfl, hw, hV⟩, o_end hs hV⟩))
  · rcases hx with ⟨rfl, hw⟩
    · refine ax_catch C (tableOf []) ⟨0, 9, 12, 13⟩ (tableOf []) (ht.trans rfl) (fun z hz => nomatch hz) (by decide) (by decide) q1224 q515 (fun q7 => o_top (fun σ6 eσ6 => ?_))
      have hw := hw σ6 eσ6
      refine a_astore_3 (pc := 12) C dX0_lotsIn_12 (by decide) rfl ?_
      refine a_iconst (pc := 13) C dX0_lotsIn_13 ic_1 ?_
      exact a_xret (a_iret C dX0_lotsIn_14 (fun h n u hV => ⟨⟨(_, _), rfl, hw, hV⟩, o_end hs hV⟩))
def wp_X0_ripest (p1 : Nat) (p2 : Int32) (p3 : Nat) (σ : OS) (Q : Int32 → OS → Prop) (X : Nat → OS → Prop) : Prop := (oC σ p1 0 ∧ wp_X1_ripest p1 p2 σ (fun v2 σ1 => (∃ (n4 : Nat) (f5 : Nat → Int64), σ1.1 p3 = some (.inl (1, n4, .inr (.inl f5))) ∧ vp_in 0 n4 ∧ ∀ σ3 : OS, σ3 = oPut σ1 p3 (.inl (1, n4, .inr (.inl (vp_updL f5 (0 : Int32).toNatClampNeg (v2.toInt64))))) → (Q 0 σ3))) (fun k9 σx => (k9 = 1 ∧ ∀ σ6 : OS, σ6 = oXs σx 0 → (Q 1 σ6))))
theorem sg_X0_ripest : aSig yX0_ripest 3 := by decide +kernel
set_option maxHeartbeats 4000000 in
theorem ct_X0_ripest (l : Launch) (G : aG) (p1 : Nat) (p2 : Int32) (p3 : Nat) (E : Nat → Prop) (σ : OS) (Q : Int32 → OS → Prop) (X : Nat → OS → Prop) (hw : wp_X0_ripest p1 p2 p3 σ Q X) (h0 : AH) (n0 u0 : Nat) (hB : OB h0 n0 E σ) : CTX l yX0_ripest (wsW_ yX0_ripest cX0_ripest 4 (some .int) [(0, 9, 12, 13)]) 8 G [.ref p1, .int p2, .ref p3] h0 n0 u0 σ.2.2.1 (10 * σ.2.2.1) (o_pi Q h0 n0 u0 E σ.2.2.1) (o_px X h0 E) := by
  refine CTX.introW [some (.ref p1), some (.int p2), some (.ref p3), none] pn_RX0 rfl (Nat.le_of_ble_eq_true rfl) ?_
  intro p e s m args below meth c C hz hu ht
  have hs : s.heap.size = n0 ∧ slT s.heap = u0 := ⟨hz, hu⟩
  refine a_world (V1 := OW h0 n0 u0 E σ.2.2.1 σ) (OW.start hB) ?_
  unfold wp_X0_ripest at hw
  refine a_aload_2 (pc := 0) C dX0_ripest_0 ?_
  refine a_iconst (pc := 1) C dX0_ripest_1 ic_0 ?_
  refine a_aload_0 (pc := 2) C dX0_ripest_2 ?_
  refine a_iload_1 (pc := 3) C dX0_ripest_3 ?_
  refine o_callXVi (pc := 4) C hs [.int p2] (b := p1) (ci := 0) (st := [.int 0, .ref p3]) (fun h n u hB => ct_X1_ripest l G p1 _ E _ _ _ hw.2 h n u hB) (by decide) (by decide) rfl hw.1 q65 q1665 q1666 q1667 (lw_meth q1668) sg_X1_ripest (Nat.le_of_ble_eq_true rfl) dX0_ripest_4 (fun v2 σ1 hw => ?_) (fun k9 σx hx => ?_)
  · refine a_i2l (pc := 7) C dX0_ripest_7 ?_
    obtain ⟨n4, f5, af5, if5, hw⟩ := hw
    refine a_last (pc := 8) C (V1 := OW h0 n0 u0 E σ.2.2.1 (oPut σ1 p3 (.inl (1, n4, .inr (.inl (vp_updL f5 (0 : Int32).toNatClampNeg (v2.toInt64))))))) (fun h n u hV => ⟨o_arr af5 hV, hV.putA af5⟩) if5 dX0_ripest_8 (o_top (fun σ3 eσ3 => ?_))
    have hw := hw σ3 eσ3
    refine a_goto (pc := 9) C 15 dX0_ripest_9 (by decide) ?_
    refine a_iconst (pc := 15) C dX0_ripest_15 ic_0 ?_
    exact a_xret (a_iret C dX0_ripest_16 (fun h n u hV => ⟨⟨(_, _), rfl, hw, hV⟩, o_end hs hV⟩))
  · rcases hx with ⟨rfl, hw⟩
    · refine ax_catch C (tableOf []) ⟨0, 9, 12, 13⟩ (tableOf []) (ht.trans rfl) (fun z hz => nomatch hz) (by decide) (by decide) q1224 q515 (fun q7 => o_top (fun σ6 eσ6 => ?_))
      have hw := hw σ6 eσ6
      refine a_astore_3 (pc := 12) C dX0_ripest_12 (by decide) rfl ?_
      refine a_iconst (pc := 13) C dX0_ripest_13 ic_1 ?_
      exact a_xret (a_iret C dX0_ripest_14 (fun h n u hV => ⟨⟨(_, _), rfl, hw, hV⟩, o_end hs hV⟩))
def wp_X0_lotIn (p1 : Nat) (p2 : Int32) (p3 : Nat) (σ : OS) (Q : Int32 → OS → Prop) (X : Nat → OS → Prop) : Prop := (oC σ p1 0 ∧ wp_X1_lotIn p1 p2 σ (fun v2 σ1 => (∃ (n4 : Nat) (f5 : Nat → Int64), σ1.1 p3 = some (.inl (1, n4, .inr (.inl f5))) ∧ vp_in 0 n4 ∧ ∀ σ3 : OS, σ3 = oPut σ1 p3 (.inl (1, n4, .inr (.inl (vp_updL f5 (0 : Int32).toNatClampNeg (v2.toInt64))))) → (Q 0 σ3))) (fun k9 σx => (k9 = 0 ∧ ∀ σ6 : OS, σ6 = oXs σx 0 → (Q 1 σ6))))
theorem sg_X0_lotIn : aSig yX0_lotIn 3 := by decide +kernel
set_option maxHeartbeats 4000000 in
theorem ct_X0_lotIn (l : Launch) (G : aG) (p1 : Nat) (p2 : Int32) (p3 : Nat) (E : Nat → Prop) (σ : OS) (Q : Int32 → OS → Prop) (X : Nat → OS → Prop) (hw : wp_X0_lotIn p1 p2 p3 σ Q X) (h0 : AH) (n0 u0 : Nat) (hB : OB h0 n0 E σ) : CTX l yX0_lotIn (wsW_ yX0_lotIn cX0_lotIn 4 (some .int) [(0, 9, 12, 20)]) 8 G [.ref p1, .int p2, .ref p3] h0 n0 u0 σ.2.2.1 (10 * σ.2.2.1) (o_pi Q h0 n0 u0 E σ.2.2.1) (o_px X h0 E) := by
  refine CTX.introW [some (.ref p1), some (.int p2), some (.ref p3), none] pn_RX0 rfl (Nat.le_of_ble_eq_true rfl) ?_
  intro p e s m args below meth c C hz hu ht
  have hs : s.heap.size = n0 ∧ slT s.heap = u0 := ⟨hz, hu⟩
  refine a_world (V1 := OW h0 n0 u0 E σ.2.2.1 σ) (OW.start hB) ?_
  unfold wp_X0_lotIn at hw
  refine a_aload_2 (pc := 0) C dX0_lotIn_0 ?_
  refine a_iconst (pc := 1) C dX0_lotIn_1 ic_0 ?_
  refine a_aload_0 (pc := 2) C dX0_lotIn_2 ?_
  refine a_iload_1 (pc := 3) C dX0_lotIn_3 ?_
  refine o_callXVi (pc := 4) C hs [.int p2] (b := p1) (ci := 0) (st := [.int 0, .ref p3]) (fun h n u hB => ct_X1_lotIn l G p1 _ E _ _ _ hw.2 h n u hB) (by decide) (by decide) rfl hw.1 q65 q1676 q1677 q1678 (lw_meth q1679) sg_X1_lotIn (Nat.le_of_ble_eq_true rfl) dX0_lotIn_4 (fun v2 σ1 hw => ?_) (fun k9 σx hx => ?_)
  · refine a_i2l (pc := 7) C dX0_lotIn_7 ?_
    obtain ⟨n4, f5, af5, if5, hw⟩ := hw
    refine a_last (pc := 8) C (V1 := OW h0 n0 u0 E σ.2.2.1 (oPut σ1 p3 (.inl (1, n4, .inr (.inl (vp_updL f5 (0 : Int32).toNatClampNeg (v2.toInt64))))))) (fun h n u hV => ⟨o_arr af5 hV, hV.putA af5⟩) if5 dX0_lotIn_8 (o_top (fun σ3 eσ3 => ?_))
    have hw := hw σ3 eσ3
    refine a_goto (pc := 9) C 15 dX0_lotIn_9 (by decide) ?_
    refine a_iconst (pc := 15) C dX0_lotIn_15 ic_0 ?_
    exact a_xret (a_iret C dX0_lotIn_16 (fun h n u hV => ⟨⟨(_, _), rfl, hw, hV⟩, o_end hs hV⟩))
  · rcases hx with ⟨rfl, hw⟩
    · refine ax_catch C (tableOf []) ⟨0, 9, 12, 20⟩ (tableOf []) (ht.trans rfl) (fun z hz => nomatch hz) (by decide) (by decide) q1300 q1320 (fun q7 => o_top (fun σ6 eσ6 => ?_))
      have hw := hw σ6 eσ6
      refine a_astore_3 (pc := 12) C dX0_lotIn_12 (by decide) rfl ?_
      refine a_iconst (pc := 13) C dX0_lotIn_13 ic_1 ?_
      exact a_xret (a_iret C dX0_lotIn_14 (fun h n u hV => ⟨⟨(_, _), rfl, hw, hV⟩, o_end hs hV⟩))
def wp_X0_settingsOf (p1 : Nat) (p2 : Int32) (p3 : Nat) (σ : OS) (Q : Int32 → OS → Prop) (X : Nat → OS → Prop) : Prop := (oC σ p1 0 ∧ wp_X1_settingsOf p1 p2 σ (fun v2 σ1 => (∃ (n4 : Nat) (f5 : Nat → Int64), σ1.1 p3 = some (.inl (1, n4, .inr (.inl f5))) ∧ vp_in 0 n4 ∧ ∀ σ3 : OS, σ3 = oPut σ1 p3 (.inl (1, n4, .inr (.inl (vp_updL f5 (0 : Int32).toNatClampNeg (v2.toInt64))))) → (Q 0 σ3))) (fun k9 σx => (k9 = 0 ∧ ∀ σ6 : OS, σ6 = oXs σx 0 → (Q 1 σ6))))
theorem sg_X0_settingsOf : aSig yX0_settingsOf 3 := by decide +kernel
set_option maxHeartbeats 4000000 in
theorem ct_X0_settingsOf (l : Launch) (G : aG) (p1 : Nat) (p2 : Int32) (p3 : Nat) (E : Nat → Prop) (σ : OS) (Q : Int32 → OS → Prop) (X : Nat → OS → Prop) (hw : wp_X0_settingsOf p1 p2 p3 σ Q X) (h0 : AH) (n0 u0 : Nat) (hB : OB h0 n0 E σ) : CTX l yX0_settingsOf (wsW_ yX0_settingsOf cX0_settingsOf 4 (some .int) [(0, 9, 12, 20)]) 8 G [.ref p1, .int p2, .ref p3] h0 n0 u0 σ.2.2.1 (10 * σ.2.2.1) (o_pi Q h0 n0 u0 E σ.2.2.1) (o_px X h0 E) := by
  refine CTX.introW [some (.ref p1), some (.int p2), some (.ref p3), none] pn_RX0 rfl (Nat.le_of_ble_eq_true rfl) ?_
  intro p e s m args below meth c C hz hu ht
  have hs : s.heap.size = n0 ∧ slT s.heap = u0 := ⟨hz, hu⟩
  refine a_world (V1 := OW h0 n0 u0 E σ.2.2.1 σ) (OW.start hB) ?_
  unfold wp_X0_settingsOf at hw
  refine a_aload_2 (pc := 0) C dX0_settingsOf_0 ?_
  refine a_iconst (pc := 1) C dX0_settingsOf_1 ic_0 ?_
  refine a_aload_0 (pc := 2) C dX0_settingsOf_2 ?_
  refine a_iload_1 (pc := 3) C dX0_settingsOf_3 ?_
  refine o_callXVi (pc := 4) C hs [.int p2] (b := p1) (ci := 0) (st := [.int 0, .ref p3]) (fun h n u hB => ct_X1_settingsOf l G p1 _ E _ _ _ hw.2 h n u hB) (by decide) (by decide) rfl hw.1 q65 q1683 q1684 q1685 (lw_meth q1686) sg_X1_settingsOf (Nat.le_of_ble_eq_true rfl) dX0_settingsOf_4 (fun v2 σ1 hw => ?_) (fun k9 σx hx => ?_)
  · refine a_i2l (pc := 7) C dX0_settingsOf_7 ?_
    obtain ⟨n4, f5, af5, if5, hw⟩ := hw
    refine a_last (pc := 8) C (V1 := OW h0 n0 u0 E σ.2.2.1 (oPut σ1 p3 (.inl (1, n4, .inr (.inl (vp_updL f5 (0 : Int32).toNatClampNeg (v2.toInt64))))))) (fun h n u hV => ⟨o_arr af5 hV, hV.putA af5⟩) if5 dX0_settingsOf_8 (o_top (fun σ3 eσ3 => ?_))
    have hw := hw σ3 eσ3
    refine a_goto (pc := 9) C 15 dX0_settingsOf_9 (by decide) ?_
    refine a_iconst (pc := 15) C dX0_settingsOf_15 ic_0 ?_
    exact a_xret (a_iret C dX0_settingsOf_16 (fun h n u hV => ⟨⟨(_, _), rfl, hw, hV⟩, o_end hs hV⟩))
  · rcases hx with ⟨rfl, hw⟩
    · refine ax_catch C (tableOf []) ⟨0, 9, 12, 20⟩ (tableOf []) (ht.trans rfl) (fun z hz => nomatch hz) (by decide) (by decide) q1300 q1320 (fun q7 => o_top (fun σ6 eσ6 => ?_))
      have hw := hw σ6 eσ6
      refine a_astore_3 (pc := 12) C dX0_settingsOf_12 (by decide) rfl ?_
      refine a_iconst (pc := 13) C dX0_settingsOf_13 ic_1 ?_
      exact a_xret (a_iret C dX0_settingsOf_14 (fun h n u hV => ⟨⟨(_, _), rfl, hw, hV⟩, o_end hs hV⟩))
def wp_X0_whyNotSteep (p1 : Nat) (p2 : Int32) (p3 : Nat) (σ : OS) (Q : Int32 → OS → Prop) (X : Nat → OS → Prop) : Prop := (oC σ p1 0 ∧ wp_X1_whyNotSteep p1 p2 σ (fun v2 σ1 => (∃ (n4 : Nat) (f5 : Nat → Int64), σ1.1 p3 = some (.inl (1, n4, .inr (.inl f5))) ∧ vp_in 0 n4 ∧ ∀ σ3 : OS, σ3 = oPut σ1 p3 (.inl (1, n4, .inr (.inl (vp_updL f5 (0 : Int32).toNatClampNeg (v2.toInt64))))) → (Q 0 σ3))) (fun k9 σx => (k9 = 0 ∧ ∀ σ6 : OS, σ6 = oXs σx 0 → (Q 1 σ6))))
theorem sg_X0_whyNotSteep : aSig yX0_whyNotSteep 3 := by decide +kernel
set_option maxHeartbeats 4000000 in
theorem ct_X0_whyNotSteep (l : Launch) (G : aG) (p1 : Nat) (p2 : Int32) (p3 : Nat) (E : Nat → Prop) (σ : OS) (Q : Int32 → OS → Prop) (X : Nat → OS → Prop) (hw : wp_X0_whyNotSteep p1 p2 p3 σ Q X) (h0 : AH) (n0 u0 : Nat) (hB : OB h0 n0 E σ) : CTX l yX0_whyNotSteep (wsW_ yX0_whyNotSteep cX0_whyNotSteep 4 (some .int) [(0, 9, 12, 20)]) 9 G [.ref p1, .int p2, .ref p3] h0 n0 u0 σ.2.2.1 (10 * σ.2.2.1) (o_pi Q h0 n0 u0 E σ.2.2.1) (o_px X h0 E) := by
  refine CTX.introW [some (.ref p1), some (.int p2), some (.ref p3), none] pn_RX0 rfl (Nat.le_of_ble_eq_true rfl) ?_
  intro p e s m args below meth c C hz hu ht
  have hs : s.heap.size = n0 ∧ slT s.heap = u0 := ⟨hz, hu⟩
  refine a_world (V1 := OW h0 n0 u0 E σ.2.2.1 σ) (OW.start hB) ?_
  unfold wp_X0_whyNotSteep at hw
  refine a_aload_2 (pc := 0) C dX0_whyNotSteep_0 ?_
  refine a_iconst (pc := 1) C dX0_whyNotSteep_1 ic_0 ?_
  refine a_aload_0 (pc := 2) C dX0_whyNotSteep_2 ?_
  refine a_iload_1 (pc := 3) C dX0_whyNotSteep_3 ?_
  refine o_callXVi (pc := 4) C hs [.int p2] (b := p1) (ci := 0) (st := [.int 0, .ref p3]) (fun h n u hB => ct_X1_whyNotSteep l G p1 _ E _ _ _ hw.2 h n u hB) (by decide) (by decide) rfl hw.1 q65 q1690 q1691 q1692 (lw_meth q1693) sg_X1_whyNotSteep (Nat.le_of_ble_eq_true rfl) dX0_whyNotSteep_4 (fun v2 σ1 hw => ?_) (fun k9 σx hx => ?_)
  · refine a_i2l (pc := 7) C dX0_whyNotSteep_7 ?_
    obtain ⟨n4, f5, af5, if5, hw⟩ := hw
    refine a_last (pc := 8) C (V1 := OW h0 n0 u0 E σ.2.2.1 (oPut σ1 p3 (.inl (1, n4, .inr (.inl (vp_updL f5 (0 : Int32).toNatClampNeg (v2.toInt64))))))) (fun h n u hV => ⟨o_arr af5 hV, hV.putA af5⟩) if5 dX0_whyNotSteep_8 (o_top (fun σ3 eσ3 => ?_))
    have hw := hw σ3 eσ3
    refine a_goto (pc := 9) C 15 dX0_whyNotSteep_9 (by decide) ?_
    refine a_iconst (pc := 15) C dX0_whyNotSteep_15 ic_0 ?_
    exact a_xret (a_iret C dX0_whyNotSteep_16 (fun h n u hV => ⟨⟨(_, _), rfl, hw, hV⟩, o_end hs hV⟩))
  · rcases hx with ⟨rfl, hw⟩
    · refine ax_catch C (tableOf []) ⟨0, 9, 12, 20⟩ (tableOf []) (ht.trans rfl) (fun z hz => nomatch hz) (by decide) (by decide) q1300 q1320 (fun q7 => o_top (fun σ6 eσ6 => ?_))
      have hw := hw σ6 eσ6
      refine a_astore_3 (pc := 12) C dX0_whyNotSteep_12 (by decide) rfl ?_
      refine a_iconst (pc := 13) C dX0_whyNotSteep_13 ic_1 ?_
      exact a_xret (a_iret C dX0_whyNotSteep_14 (fun h n u hV => ⟨⟨(_, _), rfl, hw, hV⟩, o_end hs hV⟩))
def wp_X0_whyNotDrum (p1 : Nat) (p2 : Int32) (p3 : Int32) (p4 : Nat) (σ : OS) (Q : Int32 → OS → Prop) (X : Nat → OS → Prop) : Prop := (oC σ p1 0 ∧ wp_X1_whyNotDrum p1 p2 p3 σ (fun v2 σ1 => (∃ (n4 : Nat) (f5 : Nat → Int64), σ1.1 p4 = some (.inl (1, n4, .inr (.inl f5))) ∧ vp_in 0 n4 ∧ ∀ σ3 : OS, σ3 = oPut σ1 p4 (.inl (1, n4, .inr (.inl (vp_updL f5 (0 : Int32).toNatClampNeg (v2.toInt64))))) → (Q 0 σ3))) (fun k9 σx => (k9 = 0 ∧ ∀ σ6 : OS, σ6 = oXs σx 0 → (Q 1 σ6))))
theorem sg_X0_whyNotDrum : aSig yX0_whyNotDrum 4 := by decide +kernel
set_option maxHeartbeats 4000000 in
theorem ct_X0_whyNotDrum (l : Launch) (G : aG) (p1 : Nat) (p2 : Int32) (p3 : Int32) (p4 : Nat) (E : Nat → Prop) (σ : OS) (Q : Int32 → OS → Prop) (X : Nat → OS → Prop) (hw : wp_X0_whyNotDrum p1 p2 p3 p4 σ Q X) (h0 : AH) (n0 u0 : Nat) (hB : OB h0 n0 E σ) : CTX l yX0_whyNotDrum (wsW_ yX0_whyNotDrum cX0_whyNotDrum 5 (some .int) [(0, 10, 13, 20)]) 9 G [.ref p1, .int p2, .int p3, .ref p4] h0 n0 u0 σ.2.2.1 (10 * σ.2.2.1) (o_pi Q h0 n0 u0 E σ.2.2.1) (o_px X h0 E) := by
  refine CTX.introW [some (.ref p1), some (.int p2), some (.int p3), some (.ref p4), none] pn_RX0 rfl (Nat.le_of_ble_eq_true rfl) ?_
  intro p e s m args below meth c C hz hu ht
  have hs : s.heap.size = n0 ∧ slT s.heap = u0 := ⟨hz, hu⟩
  refine a_world (V1 := OW h0 n0 u0 E σ.2.2.1 σ) (OW.start hB) ?_
  unfold wp_X0_whyNotDrum at hw
  refine a_aload_3 (pc := 0) C dX0_whyNotDrum_0 ?_
  refine a_iconst (pc := 1) C dX0_whyNotDrum_1 ic_0 ?_
  refine a_aload_0 (pc := 2) C dX0_whyNotDrum_2 ?_
  refine a_iload_1 (pc := 3) C dX0_whyNotDrum_3 ?_
  refine a_iload_2 (pc := 4) C dX0_whyNotDrum_4 ?_
  refine o_callXVi (pc := 5) C hs [.int p2, .int p3] (b := p1) (ci := 0) (st := [.int 0, .ref p4]) (fun h n u hB => ct_X1_whyNotDrum l G p1 _ _ E _ _ _ hw.2 h n u hB) (by decide) (by decide) rfl hw.1 q65 q1697 q1698 q1699 (lw_meth q1700) sg_X1_whyNotDrum (Nat.le_of_ble_eq_true rfl) dX0_whyNotDrum_5 (fun v2 σ1 hw => ?_) (fun k9 σx hx => ?_)
  · refine a_i2l (pc := 8) C dX0_whyNotDrum_8 ?_
    obtain ⟨n4, f5, af5, if5, hw⟩ := hw
    refine a_last (pc := 9) C (V1 := OW h0 n0 u0 E σ.2.2.1 (oPut σ1 p4 (.inl (1, n4, .inr (.inl (vp_updL f5 (0 : Int32).toNatClampNeg (v2.toInt64))))))) (fun h n u hV => ⟨o_arr af5 hV, hV.putA af5⟩) if5 dX0_whyNotDrum_9 (o_top (fun σ3 eσ3 => ?_))
    have hw := hw σ3 eσ3
    refine a_goto (pc := 10) C 17 dX0_whyNotDrum_10 (by decide) ?_
    refine a_iconst (pc := 17) C dX0_whyNotDrum_17 ic_0 ?_
    exact a_xret (a_iret C dX0_whyNotDrum_18 (fun h n u hV => ⟨⟨(_, _), rfl, hw, hV⟩, o_end hs hV⟩))
  · rcases hx with ⟨rfl, hw⟩
    · refine ax_catch C (tableOf []) ⟨0, 10, 13, 20⟩ (tableOf []) (ht.trans rfl) (fun z hz => nomatch hz) (by decide) (by decide) q1300 q1320 (fun q7 => o_top (fun σ6 eσ6 => ?_))
      have hw := hw σ6 eσ6
      refine a_astore_4 (pc := 13) C dX0_whyNotDrum_13 (by decide) rfl ?_
      refine a_iconst (pc := 15) C dX0_whyNotDrum_15 ic_1 ?_
      exact a_xret (a_iret C dX0_whyNotDrum_16 (fun h n u hV => ⟨⟨(_, _), rfl, hw, hV⟩, o_end hs hV⟩))
def wp_X0_whyNotLoad (p1 : Nat) (p2 : Int32) (p3 : Nat) (σ : OS) (Q : Int32 → OS → Prop) (X : Nat → OS → Prop) : Prop := (oC σ p1 0 ∧ wp_X1_whyNotLoad p1 p2 σ (fun v2 σ1 => (∃ (n4 : Nat) (f5 : Nat → Int64), σ1.1 p3 = some (.inl (1, n4, .inr (.inl f5))) ∧ vp_in 0 n4 ∧ ∀ σ3 : OS, σ3 = oPut σ1 p3 (.inl (1, n4, .inr (.inl (vp_updL f5 (0 : Int32).toNatClampNeg (v2.toInt64))))) → (Q 0 σ3))) (fun k9 σx => (k9 = 0 ∧ ∀ σ6 : OS, σ6 = oXs σx 0 → (Q 1 σ6))))
theorem sg_X0_whyNotLoad : aSig yX0_whyNotLoad 3 := by decide +kernel
set_option maxHeartbeats 4000000 in
theorem ct_X0_whyNotLoad (l : Launch) (G : aG) (p1 : Nat) (p2 : Int32) (p3 : Nat) (E : Nat → Prop) (σ : OS) (Q : Int32 → OS → Prop) (X : Nat → OS → Prop) (hw : wp_X0_whyNotLoad p1 p2 p3 σ Q X) (h0 : AH) (n0 u0 : Nat) (hB : OB h0 n0 E σ) : CTX l yX0_whyNotLoad (wsW_ yX0_whyNotLoad cX0_whyNotLoad 4 (some .int) [(0, 9, 12, 20)]) 9 G [.ref p1, .int p2, .ref p3] h0 n0 u0 σ.2.2.1 (10 * σ.2.2.1) (o_pi Q h0 n0 u0 E σ.2.2.1) (o_px X h0 E) := by
  refine CTX.introW [some (.ref p1), some (.int p2), some (.ref p3), none] pn_RX0 rfl (Nat.le_of_ble_eq_true rfl) ?_
  intro p e s m args below meth c C hz hu ht
  have hs : s.heap.size = n0 ∧ slT s.heap = u0 := ⟨hz, hu⟩
  refine a_world (V1 := OW h0 n0 u0 E σ.2.2.1 σ) (OW.start hB) ?_
  unfold wp_X0_whyNotLoad at hw
  refine a_aload_2 (pc := 0) C dX0_whyNotLoad_0 ?_
  refine a_iconst (pc := 1) C dX0_whyNotLoad_1 ic_0 ?_
  refine a_aload_0 (pc := 2) C dX0_whyNotLoad_2 ?_
  refine a_iload_1 (pc := 3) C dX0_whyNotLoad_3 ?_
  refine o_callXVi (pc := 4) C hs [.int p2] (b := p1) (ci := 0) (st := [.int 0, .ref p3]) (fun h n u hB => ct_X1_whyNotLoad l G p1 _ E _ _ _ hw.2 h n u hB) (by decide) (by decide) rfl hw.1 q65 q1704 q1705 q1706 (lw_meth q1707) sg_X1_whyNotLoad (Nat.le_of_ble_eq_true rfl) dX0_whyNotLoad_4 (fun v2 σ1 hw => ?_) (fun k9 σx hx => ?_)
  · refine a_i2l (pc := 7) C dX0_whyNotLoad_7 ?_
    obtain ⟨n4, f5, af5, if5, hw⟩ := hw
    refine a_last (pc := 8) C (V1 := OW h0 n0 u0 E σ.2.2.1 (oPut σ1 p3 (.inl (1, n4, .inr (.inl (vp_updL f5 (0 : Int32).toNatClampNeg (v2.toInt64))))))) (fun h n u hV => ⟨o_arr af5 hV, hV.putA af5⟩) if5 dX0_whyNotLoad_8 (o_top (fun σ3 eσ3 => ?_))
    have hw := hw σ3 eσ3
    refine a_goto (pc := 9) C 15 dX0_whyNotLoad_9 (by decide) ?_
    refine a_iconst (pc := 15) C dX0_whyNotLoad_15 ic_0 ?_
    exact a_xret (a_iret C dX0_whyNotLoad_16 (fun h n u hV => ⟨⟨(_, _), rfl, hw, hV⟩, o_end hs hV⟩))
  · rcases hx with ⟨rfl, hw⟩
    · refine ax_catch C (tableOf []) ⟨0, 9, 12, 20⟩ (tableOf []) (ht.trans rfl) (fun z hz => nomatch hz) (by decide) (by decide) q1300 q1320 (fun q7 => o_top (fun σ6 eσ6 => ?_))
      have hw := hw σ6 eσ6
      refine a_astore_3 (pc := 12) C dX0_whyNotLoad_12 (by decide) rfl ?_
      refine a_iconst (pc := 13) C dX0_whyNotLoad_13 ic_1 ?_
      exact a_xret (a_iret C dX0_whyNotLoad_14 (fun h n u hV => ⟨⟨(_, _), rfl, hw, hV⟩, o_end hs hV⟩))
def wp_X0_whyNotSpray (p1 : Nat) (p2 : Int32) (p3 : Nat) (σ : OS) (Q : Int32 → OS → Prop) (X : Nat → OS → Prop) : Prop := (oC σ p1 0 ∧ wp_X1_whyNotSpray p1 p2 σ (fun v2 σ1 => (∃ (n4 : Nat) (f5 : Nat → Int64), σ1.1 p3 = some (.inl (1, n4, .inr (.inl f5))) ∧ vp_in 0 n4 ∧ ∀ σ3 : OS, σ3 = oPut σ1 p3 (.inl (1, n4, .inr (.inl (vp_updL f5 (0 : Int32).toNatClampNeg (v2.toInt64))))) → (Q 0 σ3))) (fun k9 σx => (k9 = 0 ∧ ∀ σ6 : OS, σ6 = oXs σx 0 → (Q 1 σ6))))
theorem sg_X0_whyNotSpray : aSig yX0_whyNotSpray 3 := by decide +kernel
set_option maxHeartbeats 4000000 in
theorem ct_X0_whyNotSpray (l : Launch) (G : aG) (p1 : Nat) (p2 : Int32) (p3 : Nat) (E : Nat → Prop) (σ : OS) (Q : Int32 → OS → Prop) (X : Nat → OS → Prop) (hw : wp_X0_whyNotSpray p1 p2 p3 σ Q X) (h0 : AH) (n0 u0 : Nat) (hB : OB h0 n0 E σ) : CTX l yX0_whyNotSpray (wsW_ yX0_whyNotSpray cX0_whyNotSpray 4 (some .int) [(0, 9, 12, 20)]) 9 G [.ref p1, .int p2, .ref p3] h0 n0 u0 σ.2.2.1 (10 * σ.2.2.1) (o_pi Q h0 n0 u0 E σ.2.2.1) (o_px X h0 E) := by
  refine CTX.introW [some (.ref p1), some (.int p2), some (.ref p3), none] pn_RX0 rfl (Nat.le_of_ble_eq_true rfl) ?_
  intro p e s m args below meth c C hz hu ht
  have hs : s.heap.size = n0 ∧ slT s.heap = u0 := ⟨hz, hu⟩
  refine a_world (V1 := OW h0 n0 u0 E σ.2.2.1 σ) (OW.start hB) ?_
  unfold wp_X0_whyNotSpray at hw
  refine a_aload_2 (pc := 0) C dX0_whyNotSpray_0 ?_
  refine a_iconst (pc := 1) C dX0_whyNotSpray_1 ic_0 ?_
  refine a_aload_0 (pc := 2) C dX0_whyNotSpray_2 ?_
  refine a_iload_1 (pc := 3) C dX0_whyNotSpray_3 ?_
  refine o_callXVi (pc := 4) C hs [.int p2] (b := p1) (ci := 0) (st := [.int 0, .ref p3]) (fun h n u hB => ct_X1_whyNotSpray l G p1 _ E _ _ _ hw.2 h n u hB) (by decide) (by decide) rfl hw.1 q65 q1711 q1712 q1713 (lw_meth q1714) sg_X1_whyNotSpray (Nat.le_of_ble_eq_true rfl) dX0_whyNotSpray_4 (fun v2 σ1 hw => ?_) (fun k9 σx hx => ?_)
  · refine a_i2l (pc := 7) C dX0_whyNotSpray_7 ?_
    obtain ⟨n4, f5, af5, if5, hw⟩ := hw
    refine a_last (pc := 8) C (V1 := OW h0 n0 u0 E σ.2.2.1 (oPut σ1 p3 (.inl (1, n4, .inr (.inl (vp_updL f5 (0 : Int32).toNatClampNeg (v2.toInt64))))))) (fun h n u hV => ⟨o_arr af5 hV, hV.putA af5⟩) if5 dX0_whyNotSpray_8 (o_top (fun σ3 eσ3 => ?_))
    have hw := hw σ3 eσ3
    refine a_goto (pc := 9) C 15 dX0_whyNotSpray_9 (by decide) ?_
    refine a_iconst (pc := 15) C dX0_whyNotSpray_15 ic_0 ?_
    exact a_xret (a_iret C dX0_whyNotSpray_16 (fun h n u hV => ⟨⟨(_, _), rfl, hw, hV⟩, o_end hs hV⟩))
  · rcases hx with ⟨rfl, hw⟩
    · refine ax_catch C (tableOf []) ⟨0, 9, 12, 20⟩ (tableOf []) (ht.trans rfl) (fun z hz => nomatch hz) (by decide) (by decide) q1300 q1320 (fun q7 => o_top (fun σ6 eσ6 => ?_))
      have hw := hw σ6 eσ6
      refine a_astore_3 (pc := 12) C dX0_whyNotSpray_12 (by decide) rfl ?_
      refine a_iconst (pc := 13) C dX0_whyNotSpray_13 ic_1 ?_
      exact a_xret (a_iret C dX0_whyNotSpray_14 (fun h n u hV => ⟨⟨(_, _), rfl, hw, hV⟩, o_end hs hV⟩))
def wp_X0_hoursToGrow (p1 : Nat) (p2 : Int32) (p3 : Int32) (p4 : Nat) (σ : OS) (Q : Int32 → OS → Prop) (X : Nat → OS → Prop) : Prop := (oC σ p1 0 ∧ wp_X1_hoursToGrow p1 p2 p3 σ (fun v2 σ1 => (∃ (n4 : Nat) (f5 : Nat → Int64), σ1.1 p4 = some (.inl (1, n4, .inr (.inl f5))) ∧ vp_in 0 n4 ∧ ∀ σ3 : OS, σ3 = oPut σ1 p4 (.inl (1, n4, .inr (.inl (vp_updL f5 (0 : Int32).toNatClampNeg (v2.toInt64))))) → (Q 0 σ3))) (fun k9 σx => (k9 = 0 ∧ ∀ σ6 : OS, σ6 = oXs σx 0 → (Q 1 σ6)) ∨ (k9 = 1 ∧ ∀ σ8 : OS, σ8 = oXs σx 0 → (Q 2 σ8))))
theorem sg_X0_hoursToGrow : aSig yX0_hoursToGrow 4 := by decide +kernel
set_option maxHeartbeats 4000000 in
theorem ct_X0_hoursToGrow (l : Launch) (G : aG) (p1 : Nat) (p2 : Int32) (p3 : Int32) (p4 : Nat) (E : Nat → Prop) (σ : OS) (Q : Int32 → OS → Prop) (X : Nat → OS → Prop) (hw : wp_X0_hoursToGrow p1 p2 p3 p4 σ Q X) (h0 : AH) (n0 u0 : Nat) (hB : OB h0 n0 E σ) : CTX l yX0_hoursToGrow (wsW_ yX0_hoursToGrow cX0_hoursToGrow 5 (some .int) [(0, 10, 13, 20), (0, 10, 17, 13)]) 21 G [.ref p1, .int p2, .int p3, .ref p4] h0 n0 u0 σ.2.2.1 (10 * σ.2.2.1) (o_pi Q h0 n0 u0 E σ.2.2.1) (o_px X h0 E) := by
  refine CTX.introW [some (.ref p1), some (.int p2), some (.int p3), some (.ref p4), none] pn_RX0 rfl (Nat.le_of_ble_eq_true rfl) ?_
  intro p e s m args below meth c C hz hu ht
  have hs : s.heap.size = n0 ∧ slT s.heap = u0 := ⟨hz, hu⟩
  refine a_world (V1 := OW h0 n0 u0 E σ.2.2.1 σ) (OW.start hB) ?_
  unfold wp_X0_hoursToGrow at hw
  refine a_aload_3 (pc := 0) C dX0_hoursToGrow_0 ?_
  refine a_iconst (pc := 1) C dX0_hoursToGrow_1 ic_0 ?_
  refine a_aload_0 (pc := 2) C dX0_hoursToGrow_2 ?_
  refine a_iload_1 (pc := 3) C dX0_hoursToGrow_3 ?_
  refine a_iload_2 (pc := 4) C dX0_hoursToGrow_4 ?_
  refine o_callXVi (pc := 5) C hs [.int p2, .int p3] (b := p1) (ci := 0) (st := [.int 0, .ref p4]) (fun h n u hB => ct_X1_hoursToGrow l G p1 _ _ E _ _ _ hw.2 h n u hB) (by decide) (by decide) rfl hw.1 q65 q1718 q1719 q1720 (lw_meth q1721) sg_X1_hoursToGrow (Nat.le_of_ble_eq_true rfl) dX0_hoursToGrow_5 (fun v2 σ1 hw => ?_) (fun k9 σx hx => ?_)
  · refine a_i2l (pc := 8) C dX0_hoursToGrow_8 ?_
    obtain ⟨n4, f5, af5, if5, hw⟩ := hw
    refine a_last (pc := 9) C (V1 := OW h0 n0 u0 E σ.2.2.1 (oPut σ1 p4 (.inl (1, n4, .inr (.inl (vp_updL f5 (0 : Int32).toNatClampNeg (v2.toInt64))))))) (fun h n u hV => ⟨o_arr af5 hV, hV.putA af5⟩) if5 dX0_hoursToGrow_9 (o_top (fun σ3 eσ3 => ?_))
    have hw := hw σ3 eσ3
    refine a_goto (pc := 10) C 21 dX0_hoursToGrow_10 (by decide) ?_
    refine a_iconst (pc := 21) C dX0_hoursToGrow_21 ic_0 ?_
    exact a_xret (a_iret C dX0_hoursToGrow_22 (fun h n u hV => ⟨⟨(_, _), rfl, hw, hV⟩, o_end hs hV⟩))
  · rcases hx with ⟨rfl, hw⟩ | ⟨rfl, hw⟩
    · refine ax_catch C (tableOf []) ⟨0, 10, 13, 20⟩ (tableOf [(0, 10, 17, 13)]) (ht.trans rfl) (fun z hz => nomatch hz) (by decide) (by decide) q1300 q1320 (fun q7 => o_top (fun σ6 eσ6 => ?_))
      have hw := hw σ6 eσ6
      refine a_astore_4 (pc := 13) C dX0_hoursToGrow_13 (by decide) rfl ?_
      refine a_iconst (pc := 15) C dX0_hoursToGrow_15 ic_1 ?_
      exact a_xret (a_iret C dX0_hoursToGrow_16 (fun h n u hV => ⟨⟨(_, _), rfl, hw, hV⟩, o_end hs hV⟩))
    · refine ax_catch C (tableOf [(0, 10, 13, 20)]) ⟨0, 10, 17, 13⟩ (tableOf []) (ht.trans rfl) (by intro z hz; simp only [tableOf, List.map, List.mem_cons, List.not_mem_nil, or_false] at hz; subst hz; exact Or.inr ⟨by decide, _, q1300, by decide +kernel⟩) (by decide) (by decide) q1224 q515 (fun q9 => o_top (fun σ8 eσ8 => ?_))
      have hw := hw σ8 eσ8
      refine a_astore_4 (pc := 17) C dX0_hoursToGrow_17 (by decide) rfl ?_
      refine a_iconst (pc := 19) C dX0_hoursToGrow_19 ic_2 ?_
      exact a_xret (a_iret C dX0_hoursToGrow_20 (fun h n u hV => ⟨⟨(_, _), rfl, hw, hV⟩, o_end hs hV⟩))
def wp_X0_hoursToSpoil (p1 : Nat) (p2 : Int32) (p3 : Nat) (σ : OS) (Q : Int32 → OS → Prop) (X : Nat → OS → Prop) : Prop := (oC σ p1 0 ∧ wp_X1_hoursToSpoil p1 p2 σ (fun v2 σ1 => (∃ (n4 : Nat) (f5 : Nat → Int64), σ1.1 p3 = some (.inl (1, n4, .inr (.inl f5))) ∧ vp_in 0 n4 ∧ ∀ σ3 : OS, σ3 = oPut σ1 p3 (.inl (1, n4, .inr (.inl (vp_updL f5 (0 : Int32).toNatClampNeg (v2.toInt64))))) → (Q 0 σ3))) (fun k9 σx => (k9 = 0 ∧ ∀ σ6 : OS, σ6 = oXs σx 0 → (Q 1 σ6))))
theorem sg_X0_hoursToSpoil : aSig yX0_hoursToSpoil 3 := by decide +kernel
set_option maxHeartbeats 4000000 in
theorem ct_X0_hoursToSpoil (l : Launch) (G : aG) (p1 : Nat) (p2 : Int32) (p3 : Nat) (E : Nat → Prop) (σ : OS) (Q : Int32 → OS → Prop) (X : Nat → OS → Prop) (hw : wp_X0_hoursToSpoil p1 p2 p3 σ Q X) (h0 : AH) (n0 u0 : Nat) (hB : OB h0 n0 E σ) : CTX l yX0_hoursToSpoil (wsW_ yX0_hoursToSpoil cX0_hoursToSpoil 4 (some .int) [(0, 9, 12, 20)]) 21 G [.ref p1, .int p2, .ref p3] h0 n0 u0 σ.2.2.1 (10 * σ.2.2.1) (o_pi Q h0 n0 u0 E σ.2.2.1) (o_px X h0 E) := by
  refine CTX.introW [some (.ref p1), some (.int p2), some (.ref p3), none] pn_RX0 rfl (Nat.le_of_ble_eq_true rfl) ?_
  intro p e s m args below meth c C hz hu ht
  have hs : s.heap.size = n0 ∧ slT s.heap = u0 := ⟨hz, hu⟩
  refine a_world (V1 := OW h0 n0 u0 E σ.2.2.1 σ) (OW.start hB) ?_
  unfold wp_X0_hoursToSpoil at hw
  refine a_aload_2 (pc := 0) C dX0_hoursToSpoil_0 ?_
  refine a_iconst (pc := 1) C dX0_hoursToSpoil_1 ic_0 ?_
  refine a_aload_0 (pc := 2) C dX0_hoursToSpoil_2 ?_
  refine a_iload_1 (pc := 3) C dX0_hoursToSpoil_3 ?_
  refine o_callXVi (pc := 4) C hs [.int p2] (b := p1) (ci := 0) (st := [.int 0, .ref p3]) (fun h n u hB => ct_X1_hoursToSpoil l G p1 _ E _ _ _ hw.2 h n u hB) (by decide) (by decide) rfl hw.1 q65 q1725 q1726 q1727 (lw_meth q1728) sg_X1_hoursToSpoil (Nat.le_of_ble_eq_true rfl) dX0_hoursToSpoil_4 (fun v2 σ1 hw => ?_) (fun k9 σx hx => ?_)
  · refine a_i2l (pc := 7) C dX0_hoursToSpoil_7 ?_
    obtain ⟨n4, f5, af5, if5, hw⟩ := hw
    refine a_last (pc := 8) C (V1 := OW h0 n0 u0 E σ.2.2.1 (oPut σ1 p3 (.inl (1, n4, .inr (.inl (vp_updL f5 (0 : Int32).toNatClampNeg (v2.toInt64))))))) (fun h n u hV => ⟨o_arr af5 hV, hV.putA af5⟩) if5 dX0_hoursToSpoil_8 (o_top (fun σ3 eσ3 => ?_))
    have hw := hw σ3 eσ3
    refine a_goto (pc := 9) C 15 dX0_hoursToSpoil_9 (by decide) ?_
    refine a_iconst (pc := 15) C dX0_hoursToSpoil_15 ic_0 ?_
    exact a_xret (a_iret C dX0_hoursToSpoil_16 (fun h n u hV => ⟨⟨(_, _), rfl, hw, hV⟩, o_end hs hV⟩))
  · rcases hx with ⟨rfl, hw⟩
    · refine ax_catch C (tableOf []) ⟨0, 9, 12, 20⟩ (tableOf []) (ht.trans rfl) (fun z hz => nomatch hz) (by decide) (by decide) q1300 q1320 (fun q7 => o_top (fun σ6 eσ6 => ?_))
      have hw := hw σ6 eσ6
      refine a_astore_3 (pc := 12) C dX0_hoursToSpoil_12 (by decide) rfl ?_
      refine a_iconst (pc := 13) C dX0_hoursToSpoil_13 ic_1 ?_
      exact a_xret (a_iret C dX0_hoursToSpoil_14 (fun h n u hV => ⟨⟨(_, _), rfl, hw, hV⟩, o_end hs hV⟩))
def wp_X0_bestAir (p1 : Nat) (p2 : Int32) (p3 : Nat) (σ : OS) (Q : Int32 → OS → Prop) (X : Nat → OS → Prop) : Prop := (oC σ p1 0 ∧ wp_X1_bestAir p1 p2 σ (fun v2 σ1 => (∃ (n4 : Nat) (f5 : Nat → Int64), σ1.1 p3 = some (.inl (1, n4, .inr (.inl f5))) ∧ vp_in 0 n4 ∧ ∀ σ3 : OS, σ3 = oPut σ1 p3 (.inl (1, n4, .inr (.inl (vp_updL f5 (0 : Int32).toNatClampNeg (v2.toInt64))))) → (Q 0 σ3))) (fun k9 σx => (k9 = 0 ∧ ∀ σ6 : OS, σ6 = oXs σx 0 → (Q 1 σ6))))
theorem sg_X0_bestAir : aSig yX0_bestAir 3 := by decide +kernel
set_option maxHeartbeats 4000000 in
theorem ct_X0_bestAir (l : Launch) (G : aG) (p1 : Nat) (p2 : Int32) (p3 : Nat) (E : Nat → Prop) (σ : OS) (Q : Int32 → OS → Prop) (X : Nat → OS → Prop) (hw : wp_X0_bestAir p1 p2 p3 σ Q X) (h0 : AH) (n0 u0 : Nat) (hB : OB h0 n0 E σ) : CTX l yX0_bestAir (wsW_ yX0_bestAir cX0_bestAir 4 (some .int) [(0, 9, 12, 20)]) 22 G [.ref p1, .int p2, .ref p3] h0 n0 u0 σ.2.2.1 (10 * σ.2.2.1) (o_pi Q h0 n0 u0 E σ.2.2.1) (o_px X h0 E) := by
  refine CTX.introW [some (.ref p1), some (.int p2), some (.ref p3), none] pn_RX0 rfl (Nat.le_of_ble_eq_true rfl) ?_
  intro p e s m args below meth c C hz hu ht
  have hs : s.heap.size = n0 ∧ slT s.heap = u0 := ⟨hz, hu⟩
  refine a_world (V1 := OW h0 n0 u0 E σ.2.2.1 σ) (OW.start hB) ?_
  unfold wp_X0_bestAir at hw
  refine a_aload_2 (pc := 0) C dX0_bestAir_0 ?_
  refine a_iconst (pc := 1) C dX0_bestAir_1 ic_0 ?_
  refine a_aload_0 (pc := 2) C dX0_bestAir_2 ?_
  refine a_iload_1 (pc := 3) C dX0_bestAir_3 ?_
  refine o_callXVi (pc := 4) C hs [.int p2] (b := p1) (ci := 0) (st := [.int 0, .ref p3]) (fun h n u hB => ct_X1_bestAir l G p1 _ E _ _ _ hw.2 h n u hB) (by decide) (by decide) rfl hw.1 q65 q1732 q1733 q1734 (lw_meth q1735) sg_X1_bestAir (Nat.le_of_ble_eq_true rfl) dX0_bestAir_4 (fun v2 σ1 hw => ?_) (fun k9 σx hx => ?_)
  · refine a_i2l (pc := 7) C dX0_bestAir_7 ?_
    obtain ⟨n4, f5, af5, if5, hw⟩ := hw
    refine a_last (pc := 8) C (V1 := OW h0 n0 u0 E σ.2.2.1 (oPut σ1 p3 (.inl (1, n4, .inr (.inl (vp_updL f5 (0 : Int32).toNatClampNeg (v2.toInt64))))))) (fun h n u hV => ⟨o_arr af5 hV, hV.putA af5⟩) if5 dX0_bestAir_8 (o_top (fun σ3 eσ3 => ?_))
    have hw := hw σ3 eσ3
    refine a_goto (pc := 9) C 15 dX0_bestAir_9 (by decide) ?_
    refine a_iconst (pc := 15) C dX0_bestAir_15 ic_0 ?_
    exact a_xret (a_iret C dX0_bestAir_16 (fun h n u hV => ⟨⟨(_, _), rfl, hw, hV⟩, o_end hs hV⟩))
  · rcases hx with ⟨rfl, hw⟩
    · refine ax_catch C (tableOf []) ⟨0, 9, 12, 20⟩ (tableOf []) (ht.trans rfl) (fun z hz => nomatch hz) (by decide) (by decide) q1300 q1320 (fun q7 => o_top (fun σ6 eσ6 => ?_))
      have hw := hw σ6 eσ6
      refine a_astore_3 (pc := 12) C dX0_bestAir_12 (by decide) rfl ?_
      refine a_iconst (pc := 13) C dX0_bestAir_13 ic_1 ?_
      exact a_xret (a_iret C dX0_bestAir_14 (fun h n u hV => ⟨⟨(_, _), rfl, hw, hV⟩, o_end hs hV⟩))
def wp_X0_entryAt (p1 : Nat) (p2 : Int32) (p3 : Nat) (σ : OS) (Q : Int32 → OS → Prop) (X : Nat → OS → Prop) : Prop := (oC σ p1 0 ∧ wp_X1_entryAt p1 p2 σ (fun v2 σ1 => (∃ (n4 : Nat) (f5 : Nat → Int64), σ1.1 p3 = some (.inl (1, n4, .inr (.inl f5))) ∧ vp_in 0 n4 ∧ ∀ σ3 : OS, σ3 = oPut σ1 p3 (.inl (1, n4, .inr (.inl (vp_updL f5 (0 : Int32).toNatClampNeg (v2.toInt64))))) → (Q 0 σ3))) (fun k9 σx => (k9 = 0 ∧ ∀ σ6 : OS, σ6 = oXs σx 0 → (Q 1 σ6))))
theorem sg_X0_entryAt : aSig yX0_entryAt 3 := by decide +kernel
set_option maxHeartbeats 4000000 in
theorem ct_X0_entryAt (l : Launch) (G : aG) (p1 : Nat) (p2 : Int32) (p3 : Nat) (E : Nat → Prop) (σ : OS) (Q : Int32 → OS → Prop) (X : Nat → OS → Prop) (hw : wp_X0_entryAt p1 p2 p3 σ Q X) (h0 : AH) (n0 u0 : Nat) (hB : OB h0 n0 E σ) : CTX l yX0_entryAt (wsW_ yX0_entryAt cX0_entryAt 4 (some .int) [(0, 9, 12, 20)]) 17 G [.ref p1, .int p2, .ref p3] h0 n0 u0 σ.2.2.1 (10 * σ.2.2.1) (o_pi Q h0 n0 u0 E σ.2.2.1) (o_px X h0 E) := by
  refine CTX.introW [some (.ref p1), some (.int p2), some (.ref p3), none] pn_RX0 rfl (Nat.le_of_ble_eq_true rfl) ?_
  intro p e s m args below meth c C hz hu ht
  have hs : s.heap.size = n0 ∧ slT s.heap = u0 := ⟨hz, hu⟩
  refine a_world (V1 := OW h0 n0 u0 E σ.2.2.1 σ) (OW.start hB) ?_
  unfold wp_X0_entryAt at hw
  refine a_aload_2 (pc := 0) C dX0_entryAt_0 ?_
  refine a_iconst (pc := 1) C dX0_entryAt_1 ic_0 ?_
  refine a_aload_0 (pc := 2) C dX0_entryAt_2 ?_
  refine a_iload_1 (pc := 3) C dX0_entryAt_3 ?_
  refine o_callXVi (pc := 4) C hs [.int p2] (b := p1) (ci := 0) (st := [.int 0, .ref p3]) (fun h n u hB => ct_X1_entryAt l G p1 _ E _ _ _ hw.2 h n u hB) (by decide) (by decide) rfl hw.1 q65 q1742 q1743 q1744 (lw_meth q1745) sg_X1_entryAt (Nat.le_of_ble_eq_true rfl) dX0_entryAt_4 (fun v2 σ1 hw => ?_) (fun k9 σx hx => ?_)
  · refine a_i2l (pc := 7) C dX0_entryAt_7 ?_
    obtain ⟨n4, f5, af5, if5, hw⟩ := hw
    refine a_last (pc := 8) C (V1 := OW h0 n0 u0 E σ.2.2.1 (oPut σ1 p3 (.inl (1, n4, .inr (.inl (vp_updL f5 (0 : Int32).toNatClampNeg (v2.toInt64))))))) (fun h n u hV => ⟨o_arr af5 hV, hV.putA af5⟩) if5 dX0_entryAt_8 (o_top (fun σ3 eσ3 => ?_))
    have hw := hw σ3 eσ3
    refine a_goto (pc := 9) C 15 dX0_entryAt_9 (by decide) ?_
    refine a_iconst (pc := 15) C dX0_entryAt_15 ic_0 ?_
    exact a_xret (a_iret C dX0_entryAt_16 (fun h n u hV => ⟨⟨(_, _), rfl, hw, hV⟩, o_end hs hV⟩))
  · rcases hx with ⟨rfl, hw⟩
    · refine ax_catch C (tableOf []) ⟨0, 9, 12, 20⟩ (tableOf []) (ht.trans rfl) (fun z hz => nomatch hz) (by decide) (by decide) q1300 q1320 (fun q7 => o_top (fun σ6 eσ6 => ?_))
      have hw := hw σ6 eσ6
      refine a_astore_3 (pc := 12) C dX0_entryAt_12 (by decide) rfl ?_
      refine a_iconst (pc := 13) C dX0_entryAt_13 ic_1 ?_
      exact a_xret (a_iret C dX0_entryAt_14 (fun h n u hV => ⟨⟨(_, _), rfl, hw, hV⟩, o_end hs hV⟩))
