set_option maxRecDepth 100000
/-! THE MODEL's METHODS, 3: what a run of each needs (wp_), and its contract (ct_); by program -/
def wp_X6_lots (σ : MS) (Q : Int32 → MS → Prop) : Prop := (∀ σ1 : MS, σ1 = mU σ 5 3 0 → (vp_in 7 (mLen 0) ∧ (Q (σ1 0 (7 : Int32).toNatClampNeg) σ1)))
theorem sg_X6_lots : aSig yX6_lots 0 := by decide +kernel
set_option maxHeartbeats 4000000 in
theorem ct_X6_lots (l : Launch) (G : aG) (a : Nat)   (σ : MS) (Q : Int32 → MS → Prop) (hw : wp_X6_lots  σ Q) (h0 : AH) (n0 u0 : Nat) (hV : MV h0 a σ) : CT l yX6_lots (ws_ yX6_lots cX6_lots 1 (some .int)) 1 G [.ref a] h0 n0 u0 0 0 (m_pi Q h0 n0 u0 a) := by
  refine CT.intro [some (.ref a)] pn_RX6 rfl (Nat.le_of_ble_eq_true rfl) ?_
  intro p e s m args below meth c C hz hu
  have hs : s.heap.size = n0 ∧ slT s.heap = u0 := ⟨hz, hu⟩
  refine a_world (V1 := MW h0 n0 u0 a σ) (MW.start hV) ?_
  unfold wp_X6_lots at hw
  refine a_aload_0 (pc := 0) C dX6_lots_0 ?_
  refine a_iconst (pc := 1) C dX6_lots_1 ic_0 ?_
  refine m_put_thrown (pc := 2) C q1766 dX6_lots_2 (fun σ1 eσ1 => ?_)
  have hw := hw σ1 eσ1
  refine a_aload_0 (pc := 5) C dX6_lots_5 ?_
  refine m_get_z (pc := 6) C q1758 dX6_lots_6 ?_
  refine a_bipush (pc := 9) C dX6_lots_9 bc_7 ?_
  refine m_iald (pc := 11) C (by decide) hw.1 dX6_lots_11 ?_
  have hw := hw.2
  exact a_iret C dX6_lots_12 (fun h n u hV => ⟨⟨(_, _), rfl, hw, hV⟩, m_end hs hV⟩)
def wp_X6_tells (p1 : Int32) (p2 : Int32) (σ : MS) (Q : Int32 → MS → Prop) : Prop := (wp_X6_isLot p1 σ (fun v2 σ1 => (wp_X6_goes v2 1 σ1 (fun v4 σ3 => (((v4 = 0) → (Q 0 σ3)) ∧ ((¬ v4 = 0) → (wp_X6_of p1 p2 σ3 (fun v7 σ6 => (Q v7 σ6)))))))))
theorem sg_X6_tells : aSig yX6_tells 2 := by decide +kernel
set_option maxHeartbeats 4000000 in
theorem ct_X6_tells (l : Launch) (G : aG) (a : Nat) (p1 : Int32) (p2 : Int32)  (σ : MS) (Q : Int32 → MS → Prop) (hw : wp_X6_tells p1 p2 σ Q) (h0 : AH) (n0 u0 : Nat) (hV : MV h0 a σ) : CT l yX6_tells (ws_ yX6_tells cX6_tells 3 (some .int)) 3 G [.ref a, .int p1, .int p2] h0 n0 u0 0 0 (m_pi Q h0 n0 u0 a) := by
  refine CT.intro [some (.ref a), some (.int p1), some (.int p2)] pn_RX6 rfl (Nat.le_of_ble_eq_true rfl) ?_
  intro p e s m args below meth c C hz hu
  have hs : s.heap.size = n0 ∧ slT s.heap = u0 := ⟨hz, hu⟩
  refine a_world (V1 := MW h0 n0 u0 a σ) (MW.start hV) ?_
  unfold wp_X6_tells at hw
  refine a_aload_0 (pc := 0) C dX6_tells_0 ?_
  refine a_aload_0 (pc := 1) C dX6_tells_1 ?_
  refine a_iload_1 (pc := 2) C dX6_tells_2 ?_
  refine m_callV1i (pc := 3) C hs (fun h n u hV => ct_X6_isLot l G a _ _ _ hw h n u hV) (by decide) (by decide) rfl (lw_V q1836 q1838 qs33 q77 q1839) sg_X6_isLot (Nat.le_of_ble_eq_true rfl) dX6_tells_3 (fun v2 σ1 hw => ?_)
  refine a_iconst (pc := 6) C dX6_tells_6 ic_1 ?_
  refine m_callV2i (pc := 7) C hs (fun h n u hV => ct_X6_goes l G a _ _ _ _ hw h n u hV) (by decide) (by decide) rfl (lw_V q1794 q1796 qs29 q77 q1797) sg_X6_goes (Nat.le_of_ble_eq_true rfl) dX6_tells_7 (fun v4 σ3 hw => ?_)
  refine a_if_eq (pc := 10) C 22 dX6_tells_10 (by decide) (fun c5 => ?_) (fun c5 => ?_)
  · have hw := hw.1 c5
    refine a_iconst (pc := 22) C dX6_tells_22 ic_0 ?_
    exact a_iret C dX6_tells_23 (fun h n u hV => ⟨⟨(_, _), rfl, hw, hV⟩, m_end hs hV⟩)
  · have hw := hw.2 c5
    refine a_aload_0 (pc := 13) C dX6_tells_13 ?_
    refine a_iload_1 (pc := 14) C dX6_tells_14 ?_
    refine a_iload_2 (pc := 15) C dX6_tells_15 ?_
    refine m_callV2i (pc := 16) C hs (fun h n u hV => ct_X6_of l G a _ _ _ _ hw h n u hV) (by decide) (by decide) rfl (lw_V q1844 q1846 qs35 q77 q1847) sg_X6_of (Nat.le_of_ble_eq_true rfl) dX6_tells_16 (fun v7 σ6 hw => ?_)
    refine a_goto (pc := 19) C 23 dX6_tells_19 (by decide) ?_
    exact a_iret C dX6_tells_23 (fun h n u hV => ⟨⟨(_, _), rfl, hw, hV⟩, m_end hs hV⟩)
def wp_X6_placeOf (p1 : Int32) (σ : MS) (Q : Int32 → MS → Prop) : Prop := (wp_X6_tells p1 0 σ (fun v2 σ1 => (Q v2 σ1)))
theorem sg_X6_placeOf : aSig yX6_placeOf 1 := by decide +kernel
set_option maxHeartbeats 4000000 in
theorem ct_X6_placeOf (l : Launch) (G : aG) (a : Nat) (p1 : Int32)  (σ : MS) (Q : Int32 → MS → Prop) (hw : wp_X6_placeOf p1 σ Q) (h0 : AH) (n0 u0 : Nat) (hV : MV h0 a σ) : CT l yX6_placeOf (ws_ yX6_placeOf cX6_placeOf 2 (some .int)) 4 G [.ref a, .int p1] h0 n0 u0 0 0 (m_pi Q h0 n0 u0 a) := by
  refine CT.intro [some (.ref a), some (.int p1)] pn_RX6 rfl (Nat.le_of_ble_eq_true rfl) ?_
  intro p e s m args below meth c C hz hu
  have hs : s.heap.size = n0 ∧ slT s.heap = u0 := ⟨hz, hu⟩
  refine a_world (V1 := MW h0 n0 u0 a σ) (MW.start hV) ?_
  unfold wp_X6_placeOf at hw
  refine a_aload_0 (pc := 0) C dX6_placeOf_0 ?_
  refine a_iload_1 (pc := 1) C dX6_placeOf_1 ?_
  refine a_iconst (pc := 2) C dX6_placeOf_2 ic_0 ?_
  refine m_callV2i (pc := 3) C hs (fun h n u hV => ct_X6_tells l G a _ _ _ _ hw h n u hV) (by decide) (by decide) rfl (lw_V q2041 q2043 qs62 q77 q2044) sg_X6_tells (Nat.le_of_ble_eq_true rfl) dX6_placeOf_3 (fun v2 σ1 hw => ?_)
  exact a_iret C dX6_placeOf_6 (fun h n u hV => ⟨⟨(_, _), rfl, hw, hV⟩, m_end hs hV⟩)
def wp_X6_drumOf (p1 : Int32) (σ : MS) (Q : Int32 → MS → Prop) : Prop := (wp_X6_tells p1 1 σ (fun v2 σ1 => (Q v2 σ1)))
theorem sg_X6_drumOf : aSig yX6_drumOf 1 := by decide +kernel
set_option maxHeartbeats 4000000 in
theorem ct_X6_drumOf (l : Launch) (G : aG) (a : Nat) (p1 : Int32)  (σ : MS) (Q : Int32 → MS → Prop) (hw : wp_X6_drumOf p1 σ Q) (h0 : AH) (n0 u0 : Nat) (hV : MV h0 a σ) : CT l yX6_drumOf (ws_ yX6_drumOf cX6_drumOf 2 (some .int)) 4 G [.ref a, .int p1] h0 n0 u0 0 0 (m_pi Q h0 n0 u0 a) := by
  refine CT.intro [some (.ref a), some (.int p1)] pn_RX6 rfl (Nat.le_of_ble_eq_true rfl) ?_
  intro p e s m args below meth c C hz hu
  have hs : s.heap.size = n0 ∧ slT s.heap = u0 := ⟨hz, hu⟩
  refine a_world (V1 := MW h0 n0 u0 a σ) (MW.start hV) ?_
  unfold wp_X6_drumOf at hw
  refine a_aload_0 (pc := 0) C dX6_drumOf_0 ?_
  refine a_iload_1 (pc := 1) C dX6_drumOf_1 ?_
  refine a_iconst (pc := 2) C dX6_drumOf_2 ic_1 ?_
  refine m_callV2i (pc := 3) C hs (fun h n u hV => ct_X6_tells l G a _ _ _ _ hw h n u hV) (by decide) (by decide) rfl (lw_V q2041 q2043 qs62 q77 q2044) sg_X6_tells (Nat.le_of_ble_eq_true rfl) dX6_drumOf_3 (fun v2 σ1 hw => ?_)
  exact a_iret C dX6_drumOf_6 (fun h n u hV => ⟨⟨(_, _), rfl, hw, hV⟩, m_end hs hV⟩)
def wp_X6_weightOf (p1 : Int32) (σ : MS) (Q : Int32 → MS → Prop) : Prop := (wp_X6_isLot p1 σ (fun v2 σ1 => (wp_X6_goes v2 1 σ1 (fun v4 σ3 => (((v4 = 0) → (Q 0 σ3)) ∧ ((¬ v4 = 0) → (wp_X6_of p1 2 σ3 (fun v7 σ6 => (wp_X6_of p1 3 σ6 (fun v9 σ8 => (Q ((1000 * v7) + v9) σ8)))))))))))
theorem sg_X6_weightOf : aSig yX6_weightOf 1 := by decide +kernel
set_option maxHeartbeats 4000000 in
theorem ct_X6_weightOf (l : Launch) (G : aG) (a : Nat) (p1 : Int32)  (σ : MS) (Q : Int32 → MS → Prop) (hw : wp_X6_weightOf p1 σ Q) (h0 : AH) (n0 u0 : Nat) (hV : MV h0 a σ) : CT l yX6_weightOf (ws_ yX6_weightOf cX6_weightOf 2 (some .int)) 3 G [.ref a, .int p1] h0 n0 u0 0 0 (m_pi Q h0 n0 u0 a) := by
  refine CT.intro [some (.ref a), some (.int p1)] pn_RX6 rfl (Nat.le_of_ble_eq_true rfl) ?_
  intro p e s m args below meth c C hz hu
  have hs : s.heap.size = n0 ∧ slT s.heap = u0 := ⟨hz, hu⟩
  refine a_world (V1 := MW h0 n0 u0 a σ) (MW.start hV) ?_
  unfold wp_X6_weightOf at hw
  refine a_aload_0 (pc := 0) C dX6_weightOf_0 ?_
  refine a_aload_0 (pc := 1) C dX6_weightOf_1 ?_
  refine a_iload_1 (pc := 2) C dX6_weightOf_2 ?_
  refine m_callV1i (pc := 3) C hs (fun h n u hV => ct_X6_isLot l G a _ _ _ hw h n u hV) (by decide) (by decide) rfl (lw_V q1836 q1838 qs33 q77 q1839) sg_X6_isLot (Nat.le_of_ble_eq_true rfl) dX6_weightOf_3 (fun v2 σ1 hw => ?_)
  refine a_iconst (pc := 6) C dX6_weightOf_6 ic_1 ?_
  refine m_callV2i (pc := 7) C hs (fun h n u hV => ct_X6_goes l G a _ _ _ _ hw h n u hV) (by decide) (by decide) rfl (lw_V q1794 q1796 qs29 q77 q1797) sg_X6_goes (Nat.le_of_ble_eq_true rfl) dX6_weightOf_7 (fun v4 σ3 hw => ?_)
  refine a_if_eq (pc := 10) C 33 dX6_weightOf_10 (by decide) (fun c5 => ?_) (fun c5 => ?_)
  · have hw := hw.1 c5
    refine a_iconst (pc := 33) C dX6_weightOf_33 ic_0 ?_
    exact a_iret C dX6_weightOf_34 (fun h n u hV => ⟨⟨(_, _), rfl, hw, hV⟩, m_end hs hV⟩)
  · have hw := hw.2 c5
    refine a_sipush (pc := 13) C dX6_weightOf_13 sc_1000 ?_
    refine a_aload_0 (pc := 16) C dX6_weightOf_16 ?_
    refine a_iload_1 (pc := 17) C dX6_weightOf_17 ?_
    refine a_iconst (pc := 18) C dX6_weightOf_18 ic_2 ?_
    refine m_callV2i (pc := 19) C hs (fun h n u hV => ct_X6_of l G a _ _ _ _ hw h n u hV) (by decide) (by decide) rfl (lw_V q1844 q1846 qs35 q77 q1847) sg_X6_of (Nat.le_of_ble_eq_true rfl) dX6_weightOf_19 (fun v7 σ6 hw => ?_)
    refine a_imul (pc := 22) C dX6_weightOf_22 ?_
    refine a_aload_0 (pc := 23) C dX6_weightOf_23 ?_
    refine a_iload_1 (pc := 24) C dX6_weightOf_24 ?_
    refine a_iconst (pc := 25) C dX6_weightOf_25 ic_3 ?_
    refine m_callV2i (pc := 26) C hs (fun h n u hV => ct_X6_of l G a _ _ _ _ hw h n u hV) (by decide) (by decide) rfl (lw_V q1844 q1846 qs35 q77 q1847) sg_X6_of (Nat.le_of_ble_eq_true rfl) dX6_weightOf_26 (fun v9 σ8 hw => ?_)
    refine a_iadd (pc := 29) C dX6_weightOf_29 ?_
    refine a_goto (pc := 30) C 34 dX6_weightOf_30 (by decide) ?_
    exact a_iret C dX6_weightOf_34 (fun h n u hV => ⟨⟨(_, _), rfl, hw, hV⟩, m_end hs hV⟩)
def wp_X6_wetnessOf (p1 : Int32) (σ : MS) (Q : Int32 → MS → Prop) : Prop := (wp_X6_tells p1 4 σ (fun v2 σ1 => (Q v2 σ1)))
theorem sg_X6_wetnessOf : aSig yX6_wetnessOf 1 := by decide +kernel
set_option maxHeartbeats 4000000 in
theorem ct_X6_wetnessOf (l : Launch) (G : aG) (a : Nat) (p1 : Int32)  (σ : MS) (Q : Int32 → MS → Prop) (hw : wp_X6_wetnessOf p1 σ Q) (h0 : AH) (n0 u0 : Nat) (hV : MV h0 a σ) : CT l yX6_wetnessOf (ws_ yX6_wetnessOf cX6_wetnessOf 2 (some .int)) 4 G [.ref a, .int p1] h0 n0 u0 0 0 (m_pi Q h0 n0 u0 a) := by
  refine CT.intro [some (.ref a), some (.int p1)] pn_RX6 rfl (Nat.le_of_ble_eq_true rfl) ?_
  intro p e s m args below meth c C hz hu
  have hs : s.heap.size = n0 ∧ slT s.heap = u0 := ⟨hz, hu⟩
  refine a_world (V1 := MW h0 n0 u0 a σ) (MW.start hV) ?_
  unfold wp_X6_wetnessOf at hw
  refine a_aload_0 (pc := 0) C dX6_wetnessOf_0 ?_
  refine a_iload_1 (pc := 1) C dX6_wetnessOf_1 ?_
  refine a_iconst (pc := 2) C dX6_wetnessOf_2 ic_4 ?_
  refine m_callV2i (pc := 3) C hs (fun h n u hV => ct_X6_tells l G a _ _ _ _ hw h n u hV) (by decide) (by decide) rfl (lw_V q2041 q2043 qs62 q77 q2044) sg_X6_tells (Nat.le_of_ble_eq_true rfl) dX6_wetnessOf_3 (fun v2 σ1 hw => ?_)
  exact a_iret C dX6_wetnessOf_6 (fun h n u hV => ⟨⟨(_, _), rfl, hw, hV⟩, m_end hs hV⟩)
def wp_X6_growthOf (p1 : Int32) (σ : MS) (Q : Int32 → MS → Prop) : Prop := (wp_X6_tells p1 5 σ (fun v2 σ1 => (Q v2 σ1)))
theorem sg_X6_growthOf : aSig yX6_growthOf 1 := by decide +kernel
set_option maxHeartbeats 4000000 in
theorem ct_X6_growthOf (l : Launch) (G : aG) (a : Nat) (p1 : Int32)  (σ : MS) (Q : Int32 → MS → Prop) (hw : wp_X6_growthOf p1 σ Q) (h0 : AH) (n0 u0 : Nat) (hV : MV h0 a σ) : CT l yX6_growthOf (ws_ yX6_growthOf cX6_growthOf 2 (some .int)) 4 G [.ref a, .int p1] h0 n0 u0 0 0 (m_pi Q h0 n0 u0 a) := by
  refine CT.intro [some (.ref a), some (.int p1)] pn_RX6 rfl (Nat.le_of_ble_eq_true rfl) ?_
  intro p e s m args below meth c C hz hu
  have hs : s.heap.size = n0 ∧ slT s.heap = u0 := ⟨hz, hu⟩
  refine a_world (V1 := MW h0 n0 u0 a σ) (MW.start hV) ?_
  unfold wp_X6_growthOf at hw
  refine a_aload_0 (pc := 0) C dX6_growthOf_0 ?_
  refine a_iload_1 (pc := 1) C dX6_growthOf_1 ?_
  refine a_iconst (pc := 2) C dX6_growthOf_2 ic_5 ?_
  refine m_callV2i (pc := 3) C hs (fun h n u hV => ct_X6_tells l G a _ _ _ _ hw h n u hV) (by decide) (by decide) rfl (lw_V q2041 q2043 qs62 q77 q2044) sg_X6_tells (Nat.le_of_ble_eq_true rfl) dX6_growthOf_3 (fun v2 σ1 hw => ?_)
  exact a_iret C dX6_growthOf_6 (fun h n u hV => ⟨⟨(_, _), rfl, hw, hV⟩, m_end hs hV⟩)
def wp_X6_heatOf (p1 : Int32) (σ : MS) (Q : Int32 → MS → Prop) : Prop := (wp_X6_tells p1 6 σ (fun v2 σ1 => (Q v2 σ1)))
theorem sg_X6_heatOf : aSig yX6_heatOf 1 := by decide +kernel
set_option maxHeartbeats 4000000 in
theorem ct_X6_heatOf (l : Launch) (G : aG) (a : Nat) (p1 : Int32)  (σ : MS) (Q : Int32 → MS → Prop) (hw : wp_X6_heatOf p1 σ Q) (h0 : AH) (n0 u0 : Nat) (hV : MV h0 a σ) : CT l yX6_heatOf (ws_ yX6_heatOf cX6_heatOf 2 (some .int)) 4 G [.ref a, .int p1] h0 n0 u0 0 0 (m_pi Q h0 n0 u0 a) := by
  refine CT.intro [some (.ref a), some (.int p1)] pn_RX6 rfl (Nat.le_of_ble_eq_true rfl) ?_
  intro p e s m args below meth c C hz hu
  have hs : s.heap.size = n0 ∧ slT s.heap = u0 := ⟨hz, hu⟩
  refine a_world (V1 := MW h0 n0 u0 a σ) (MW.start hV) ?_
  unfold wp_X6_heatOf at hw
  refine a_aload_0 (pc := 0) C dX6_heatOf_0 ?_
  refine a_iload_1 (pc := 1) C dX6_heatOf_1 ?_
  refine a_bipush (pc := 2) C dX6_heatOf_2 bc_6 ?_
  refine m_callV2i (pc := 4) C hs (fun h n u hV => ct_X6_tells l G a _ _ _ _ hw h n u hV) (by decide) (by decide) rfl (lw_V q2041 q2043 qs62 q77 q2044) sg_X6_tells (Nat.le_of_ble_eq_true rfl) dX6_heatOf_4 (fun v2 σ1 hw => ?_)
  exact a_iret C dX6_heatOf_7 (fun h n u hV => ⟨⟨(_, _), rfl, hw, hV⟩, m_end hs hV⟩)
def wp_X6_feltOf (p1 : Int32) (σ : MS) (Q : Int32 → MS → Prop) : Prop := (wp_X6_tells p1 7 σ (fun v2 σ1 => (Q v2 σ1)))
theorem sg_X6_feltOf : aSig yX6_feltOf 1 := by decide +kernel
set_option maxHeartbeats 4000000 in
theorem ct_X6_feltOf (l : Launch) (G : aG) (a : Nat) (p1 : Int32)  (σ : MS) (Q : Int32 → MS → Prop) (hw : wp_X6_feltOf p1 σ Q) (h0 : AH) (n0 u0 : Nat) (hV : MV h0 a σ) : CT l yX6_feltOf (ws_ yX6_feltOf cX6_feltOf 2 (some .int)) 4 G [.ref a, .int p1] h0 n0 u0 0 0 (m_pi Q h0 n0 u0 a) := by
  refine CT.intro [some (.ref a), some (.int p1)] pn_RX6 rfl (Nat.le_of_ble_eq_true rfl) ?_
  intro p e s m args below meth c C hz hu
  have hs : s.heap.size = n0 ∧ slT s.heap = u0 := ⟨hz, hu⟩
  refine a_world (V1 := MW h0 n0 u0 a σ) (MW.start hV) ?_
  unfold wp_X6_feltOf at hw
  refine a_aload_0 (pc := 0) C dX6_feltOf_0 ?_
  refine a_iload_1 (pc := 1) C dX6_feltOf_1 ?_
  refine a_bipush (pc := 2) C dX6_feltOf_2 bc_7 ?_
  refine m_callV2i (pc := 4) C hs (fun h n u hV => ct_X6_tells l G a _ _ _ _ hw h n u hV) (by decide) (by decide) rfl (lw_V q2041 q2043 qs62 q77 q2044) sg_X6_tells (Nat.le_of_ble_eq_true rfl) dX6_feltOf_4 (fun v2 σ1 hw => ?_)
  exact a_iret C dX6_feltOf_7 (fun h n u hV => ⟨⟨(_, _), rfl, hw, hV⟩, m_end hs hV⟩)
def wp_X6_isGlassy (p1 : Int32) (σ : MS) (Q : Int32 → MS → Prop) : Prop := (wp_X6_tells p1 8 σ (fun v2 σ1 => (((¬ v2 = 1) → (Q 0 σ1)) ∧ ((v2 = 1) → (Q 1 σ1)))))
theorem sg_X6_isGlassy : aSig yX6_isGlassy 1 := by decide +kernel
set_option maxHeartbeats 4000000 in
theorem ct_X6_isGlassy (l : Launch) (G : aG) (a : Nat) (p1 : Int32)  (σ : MS) (Q : Int32 → MS → Prop) (hw : wp_X6_isGlassy p1 σ Q) (h0 : AH) (n0 u0 : Nat) (hV : MV h0 a σ) : CT l yX6_isGlassy (ws_ yX6_isGlassy cX6_isGlassy 2 (some .boolean)) 4 G [.ref a, .int p1] h0 n0 u0 0 0 (m_pi Q h0 n0 u0 a) := by
  refine CT.intro [some (.ref a), some (.int p1)] pn_RX6 rfl (Nat.le_of_ble_eq_true rfl) ?_
  intro p e s m args below meth c C hz hu
  have hs : s.heap.size = n0 ∧ slT s.heap = u0 := ⟨hz, hu⟩
  refine a_world (V1 := MW h0 n0 u0 a σ) (MW.start hV) ?_
  unfold wp_X6_isGlassy at hw
  refine a_aload_0 (pc := 0) C dX6_isGlassy_0 ?_
  refine a_iload_1 (pc := 1) C dX6_isGlassy_1 ?_
  refine a_bipush (pc := 2) C dX6_isGlassy_2 bc_8 ?_
  refine m_callV2i (pc := 4) C hs (fun h n u hV => ct_X6_tells l G a _ _ _ _ hw h n u hV) (by decide) (by decide) rfl (lw_V q2041 q2043 qs62 q77 q2044) sg_X6_tells (Nat.le_of_ble_eq_true rfl) dX6_isGlassy_4 (fun v2 σ1 hw => ?_)
  refine a_iconst (pc := 7) C dX6_isGlassy_7 ic_1 ?_
  refine a_icmp_ne (pc := 8) C 15 dX6_isGlassy_8 (by decide) (fun c3 => ?_) (fun c3 => ?_)
  · have hw := hw.1 c3
    refine a_iconst (pc := 15) C dX6_isGlassy_15 ic_0 ?_
    exact a_zret rfl C dX6_isGlassy_16 (fun h n u hV => ⟨⟨(_, _), rfl, hw, hV⟩, m_end hs hV⟩)
  · have hw := hw.2 c3
    refine a_iconst (pc := 11) C dX6_isGlassy_11 ic_1 ?_
    refine a_goto (pc := 12) C 16 dX6_isGlassy_12 (by decide) ?_
    exact a_zret rfl C dX6_isGlassy_16 (fun h n u hV => ⟨⟨(_, _), rfl, hw, hV⟩, m_end hs hV⟩)
def wp_X6_paceOf (p1 : Int32) (σ : MS) (Q : Int32 → MS → Prop) : Prop := (wp_X6_isLot p1 σ (fun v2 σ1 => (wp_X6_goes v2 1 σ1 (fun v4 σ3 => (((v4 = 0) → (Q 0 σ3)) ∧ ((¬ v4 = 0) → (wp_X6_isGrowing p1 σ3 (fun v7 σ6 => (((v7 = 0) → (Q 0 σ6)) ∧ ((¬ v7 = 0) → (wp_X6_pace p1 σ6 (fun v10 σ9 => (Q v10 σ9)))))))))))))
theorem sg_X6_paceOf : aSig yX6_paceOf 1 := by decide +kernel
set_option maxHeartbeats 4000000 in
theorem ct_X6_paceOf (l : Launch) (G : aG) (a : Nat) (p1 : Int32)  (σ : MS) (Q : Int32 → MS → Prop) (hw : wp_X6_paceOf p1 σ Q) (h0 : AH) (n0 u0 : Nat) (hV : MV h0 a σ) : CT l yX6_paceOf (ws_ yX6_paceOf cX6_paceOf 2 (some .int)) 3 G [.ref a, .int p1] h0 n0 u0 0 0 (m_pi Q h0 n0 u0 a) := by
  refine CT.intro [some (.ref a), some (.int p1)] pn_RX6 rfl (Nat.le_of_ble_eq_true rfl) ?_
  intro p e s m args below meth c C hz hu
  have hs : s.heap.size = n0 ∧ slT s.heap = u0 := ⟨hz, hu⟩
  refine a_world (V1 := MW h0 n0 u0 a σ) (MW.start hV) ?_
  unfold wp_X6_paceOf at hw
  refine a_aload_0 (pc := 0) C dX6_paceOf_0 ?_
  refine a_aload_0 (pc := 1) C dX6_paceOf_1 ?_
  refine a_iload_1 (pc := 2) C dX6_paceOf_2 ?_
  refine m_callV1i (pc := 3) C hs (fun h n u hV => ct_X6_isLot l G a _ _ _ hw h n u hV) (by decide) (by decide) rfl (lw_V q1836 q1838 qs33 q77 q1839) sg_X6_isLot (Nat.le_of_ble_eq_true rfl) dX6_paceOf_3 (fun v2 σ1 hw => ?_)
  refine a_iconst (pc := 6) C dX6_paceOf_6 ic_1 ?_
  refine m_callV2i (pc := 7) C hs (fun h n u hV => ct_X6_goes l G a _ _ _ _ hw h n u hV) (by decide) (by decide) rfl (lw_V q1794 q1796 qs29 q77 q1797) sg_X6_goes (Nat.le_of_ble_eq_true rfl) dX6_paceOf_7 (fun v4 σ3 hw => ?_)
  refine a_if_eq (pc := 10) C 29 dX6_paceOf_10 (by decide) (fun c5 => ?_) (fun c5 => ?_)
  · have hw := hw.1 c5
    refine a_iconst (pc := 29) C dX6_paceOf_29 ic_0 ?_
    exact a_iret C dX6_paceOf_30 (fun h n u hV => ⟨⟨(_, _), rfl, hw, hV⟩, m_end hs hV⟩)
  · have hw := hw.2 c5
    refine a_aload_0 (pc := 13) C dX6_paceOf_13 ?_
    refine a_iload_1 (pc := 14) C dX6_paceOf_14 ?_
    refine m_callV1i (pc := 15) C hs (fun h n u hV => ct_X6_isGrowing l G a _ _ _ hw h n u hV) (by decide) (by decide) rfl (lw_V q1878 q1880 qs41 q77 q1881) sg_X6_isGrowing (Nat.le_of_ble_eq_true rfl) dX6_paceOf_15 (fun v7 σ6 hw => ?_)
    refine a_if_eq (pc := 18) C 29 dX6_paceOf_18 (by decide) (fun c8 => ?_) (fun c8 => ?_)
    · have hw := hw.1 c8
      refine a_iconst (pc := 29) C dX6_paceOf_29 ic_0 ?_
      exact a_iret C dX6_paceOf_30 (fun h n u hV => ⟨⟨(_, _), rfl, hw, hV⟩, m_end hs hV⟩)
    · have hw := hw.2 c8
      refine a_aload_0 (pc := 21) C dX6_paceOf_21 ?_
      refine a_iload_1 (pc := 22) C dX6_paceOf_22 ?_
      refine m_callV1i (pc := 23) C hs (fun h n u hV => ct_X6_pace l G a _ _ _ hw h n u hV) (by decide) (by decide) rfl (lw_V q1977 q1979 qs55 q77 q1980) sg_X6_pace (Nat.le_of_ble_eq_true rfl) dX6_paceOf_23 (fun v10 σ9 hw => ?_)
      refine a_goto (pc := 26) C 30 dX6_paceOf_26 (by decide) ?_
      exact a_iret C dX6_paceOf_30 (fun h n u hV => ⟨⟨(_, _), rfl, hw, hV⟩, m_end hs hV⟩)
def wp_X6_lotsIn_L21 (kx8 : Int32 → Int32 → MS → Prop) (p1 : Int32) : Nat → Int32 → Int32 → MS → Prop
  | 0, _, _, _ => False
  | F + 1, x5, x6, σ7 => (vp_in 7 (mLen 0) ∧ ((((σ7 0 (7 : Int32).toNatClampNeg) ≤ x6) → (kx8 x5 x6 σ7)) ∧ ((¬ (σ7 0 (7 : Int32).toNatClampNeg) ≤ x6) → (wp_X6_of x6 0 σ7 (fun v14 σ13 => (jn (fun (x17 : Int32) => (wp_X6_lotsIn_L21 kx8 p1 F (x5 ||| x17) (x6 + 1) σ13)) (fun kj16 => (((¬ v14 = p1) → (kj16 0)) ∧ ((v14 = p1) → (kj16 (1 <<< (x6 &&& 31))))))))))))
def wp_X6_lotsIn (p1 : Int32) (σ : MS) (Q : Int32 → MS → Prop) : Prop := (wp_X6_in p1 0 6 (fun v1 => (wp_X6_goes v1 1 σ (fun v3 σ2 => (((¬ v3 = 0) → (jn (fun (x9 : Int32) (x10 : Int32) (σ11 : MS) => (Q x9 σ11)) (fun kx8 => wp_X6_lotsIn_L21 kx8 p1 mF 0 0 σ2))) ∧ ((v3 = 0) → (Q 0 σ2)))))))
theorem sg_X6_lotsIn : aSig yX6_lotsIn 1 := by decide +kernel
set_option maxHeartbeats 4000000 in
theorem ct_X6_lotsIn (l : Launch) (G : aG) (a : Nat) (p1 : Int32)  (σ : MS) (Q : Int32 → MS → Prop) (hw : wp_X6_lotsIn p1 σ Q) (h0 : AH) (n0 u0 : Nat) (hV : MV h0 a σ) : CT l yX6_lotsIn (ws_ yX6_lotsIn cX6_lotsIn 4 (some .int)) 2 G [.ref a, .int p1] h0 n0 u0 0 0 (m_pi Q h0 n0 u0 a) := by
  refine CT.intro [some (.ref a), some (.int p1), none, none] pn_RX6 rfl (Nat.le_of_ble_eq_true rfl) ?_
  intro p e s m args below meth c C hz hu
  have hs : s.heap.size = n0 ∧ slT s.heap = u0 := ⟨hz, hu⟩
  refine a_world (V1 := MW h0 n0 u0 a σ) (MW.start hV) ?_
  unfold wp_X6_lotsIn at hw
  refine a_aload_0 (pc := 0) C dX6_lotsIn_0 ?_
  refine a_iload_1 (pc := 1) C dX6_lotsIn_1 ?_
  refine a_iconst (pc := 2) C dX6_lotsIn_2 ic_0 ?_
  refine a_bipush (pc := 3) C dX6_lotsIn_3 bc_6 ?_
  refine m_callS3p (pc := 5) C hs (fun h n u => ct_X6_in l G _ _ _ _ hw h n u) (by decide) (by decide) (lw_S q1821 q1822 q77 q1823) sg_X6_in (Nat.le_of_ble_eq_true rfl) dX6_lotsIn_5 (fun v1 hw => ?_)
  refine a_iconst (pc := 8) C dX6_lotsIn_8 ic_1 ?_
  refine m_callV2i (pc := 9) C hs (fun h n u hV => ct_X6_goes l G a _ _ _ _ hw h n u hV) (by decide) (by decide) rfl (lw_V q1794 q1796 qs29 q77 q1797) sg_X6_goes (Nat.le_of_ble_eq_true rfl) dX6_lotsIn_9 (fun v3 σ2 hw => ?_)
  refine a_if_ne (pc := 12) C 17 dX6_lotsIn_12 (by decide) (fun c4 => ?_) (fun c4 => ?_)
  · have hw := hw.1 c4
    refine a_iconst (pc := 17) C dX6_lotsIn_17 ic_0 ?_
    refine a_istore_2 (pc := 18) C dX6_lotsIn_18 (by decide) rfl ?_
    refine a_iconst (pc := 19) C dX6_lotsIn_19 ic_0 ?_
    refine a_istore_3 (pc := 20) C dX6_lotsIn_20 (by decide) rfl ?_
    refine jn_use hw (fun kx8 ekx8 hw => ?_)
    have hkx8 : ∀ (x9 : Int32) (x10 : Int32) (σ11 : MS), kx8 x9 x10 σ11 → AW G p l e (aRm 2 0 0) s m args below meth c (a_A h0 n0) 4 (MQ below (a_Qc G (m_pi Q h0 n0 u0 a) (a_A h0 n0)) args s 0 0 (a_A h0 n0)) (MW h0 n0 u0 a σ11) 58 [some (.ref a), some (.int p1), some (.int x9), some (.int x10)] [] := by
      intro x9 x10 σ11 hw
      rw [ekx8] at hw
      refine a_iload_2 (pc := 58) C dX6_lotsIn_58 ?_
      exact a_iret C dX6_lotsIn_59 (fun h n u hV => ⟨⟨(_, _), rfl, hw, hV⟩, m_end hs hV⟩)
    have lp21 : ∀ (F : Nat) (x5 : Int32) (x6 : Int32) (σ7 : MS), wp_X6_lotsIn_L21 kx8 p1 F x5 x6 σ7 → AW G p l e (aRm 2 0 0) s m args below meth c (a_A h0 n0) 4 (MQ below (a_Qc G (m_pi Q h0 n0 u0 a) (a_A h0 n0)) args s 0 0 (a_A h0 n0)) (MW h0 n0 u0 a σ7) 21 [some (.ref a), some (.int p1), some (.int x5), some (.int x6)] [] := by
      intro F
      induction F with
      | zero => intro x5 x6 σ7 hw; exact False.elim hw
      | succ F ih =>
        intro x5 x6 σ7 hw
        rw [wp_X6_lotsIn_L21] at hw
        refine a_iload_3 (pc := 21) C dX6_lotsIn_21 ?_
        refine a_aload_0 (pc := 22) C dX6_lotsIn_22 ?_
        refine m_get_z (pc := 23) C q1758 dX6_lotsIn_23 ?_
        refine a_bipush (pc := 26) C dX6_lotsIn_26 bc_7 ?_
        refine m_iald (pc := 28) C (by decide) hw.1 dX6_lotsIn_28 ?_
        have hw := hw.2
        refine a_icmp_ge (pc := 29) C 58 dX6_lotsIn_29 (by decide) (fun c12 => ?_) (fun c12 => ?_)
        · have hw := hw.1 c12
          exact hkx8 _ _ _ hw
        · have hw := hw.2 c12
          refine a_iload_2 (pc := 32) C dX6_lotsIn_32 ?_
          refine a_aload_0 (pc := 33) C dX6_lotsIn_33 ?_
          refine a_iload_3 (pc := 34) C dX6_lotsIn_34 ?_
          refine a_iconst (pc := 35) C dX6_lotsIn_35 ic_0 ?_
          refine m_callV2i (pc := 36) C hs (fun h n u hV => ct_X6_of l G a _ _ _ _ hw h n u hV) (by decide) (by decide) rfl (lw_V q1844 q1846 qs35 q77 q1847) sg_X6_of (Nat.le_of_ble_eq_true rfl) dX6_lotsIn_36 (fun v14 σ13 hw => ?_)
          refine a_iload_1 (pc := 39) C dX6_lotsIn_39 ?_
          refine jn_use hw (fun kj16 ekj16 hw => ?_)
          have hkj16 : ∀ (x17 : Int32), kj16 x17 → AW G p l e (aRm 2 0 0) s m args below meth c (a_A h0 n0) 4 (MQ below (a_Qc G (m_pi Q h0 n0 u0 a) (a_A h0 n0)) args s 0 0 (a_A h0 n0)) (MW h0 n0 u0 a σ13) 50 [some (.ref a), some (.int p1), some (.int x5), some (.int x6)] [.int x17, .int x5] := by
            intro x17 hw
            rw [ekj16] at hw
            refine a_ior (pc := 50) C dX6_lotsIn_50 ?_
            refine a_istore_2 (pc := 51) C dX6_lotsIn_51 (by decide) rfl ?_
            refine a_iinc_3 (pc := 52) (v := 1) C dX6_lotsIn_52 (by decide) (by decide) rfl ?_
            refine a_goto (pc := 55) C 21 dX6_lotsIn_55 (by decide) ?_
            exact ih _ _ _ hw
          refine a_icmp_ne (pc := 40) C 49 dX6_lotsIn_40 (by decide) (fun c15 => ?_) (fun c15 => ?_)
          · have hw := hw.1 c15
            refine a_iconst (pc := 49) C dX6_lotsIn_49 ic_0 ?_
            exact hkj16 _ hw
          · have hw := hw.2 c15
            refine a_iconst (pc := 43) C dX6_lotsIn_43 ic_1 ?_
            refine a_iload_3 (pc := 44) C dX6_lotsIn_44 ?_
            refine a_ishl (pc := 45) C dX6_lotsIn_45 ?_
            refine a_goto (pc := 46) C 50 dX6_lotsIn_46 (by decide) ?_
            exact hkj16 _ hw
    exact lp21 mF _ _ _ hw
  · have hw := hw.2 c4
    refine a_iconst (pc := 15) C dX6_lotsIn_15 ic_0 ?_
    exact a_iret C dX6_lotsIn_16 (fun h n u hV => ⟨⟨(_, _), rfl, hw, hV⟩, m_end hs hV⟩)
def wp_X6_isRiper (p1 : Int32) (p2 : Int32) (σ : MS) (Q : Int32 → MS → Prop) : Prop := (wp_X6_of p1 5 σ (fun v2 σ1 => (wp_X6_of p2 5 σ1 (fun v4 σ3 => (wp_X6_of p1 6 σ3 (fun v6 σ5 => (wp_X6_of p2 6 σ5 (fun v8 σ7 => (((0 < (v2 - v4)) → (Q 1 σ7)) ∧ ((¬ 0 < (v2 - v4)) → (((¬ (v2 - v4) = 0) → (Q 0 σ7)) ∧ (((v2 - v4) = 0) → (((0 < (v6 - v8)) → (Q 1 σ7)) ∧ ((¬ 0 < (v6 - v8)) → (((¬ (v6 - v8) = 0) → (Q 0 σ7)) ∧ (((v6 - v8) = 0) → (((p2 ≤ p1) → (Q 0 σ7)) ∧ ((¬ p2 ≤ p1) → (Q 1 σ7)))))))))))))))))))
theorem sg_X6_isRiper : aSig yX6_isRiper 2 := by decide +kernel
set_option maxHeartbeats 4000000 in
theorem ct_X6_isRiper (l : Launch) (G : aG) (a : Nat) (p1 : Int32) (p2 : Int32)  (σ : MS) (Q : Int32 → MS → Prop) (hw : wp_X6_isRiper p1 p2 σ Q) (h0 : AH) (n0 u0 : Nat) (hV : MV h0 a σ) : CT l yX6_isRiper (ws_ yX6_isRiper cX6_isRiper 5 (some .boolean)) 2 G [.ref a, .int p1, .int p2] h0 n0 u0 0 0 (m_pi Q h0 n0 u0 a) := by
  refine CT.intro [some (.ref a), some (.int p1), some (.int p2), none, none] pn_RX6 rfl (Nat.le_of_ble_eq_true rfl) ?_
  intro p e s m args below meth c C hz hu
  have hs : s.heap.size = n0 ∧ slT s.heap = u0 := ⟨hz, hu⟩
  refine a_world (V1 := MW h0 n0 u0 a σ) (MW.start hV) ?_
  unfold wp_X6_isRiper at hw
  refine a_aload_0 (pc := 0) C dX6_isRiper_0 ?_
  refine a_iload_1 (pc := 1) C dX6_isRiper_1 ?_
  refine a_iconst (pc := 2) C dX6_isRiper_2 ic_5 ?_
  refine m_callV2i (pc := 3) C hs (fun h n u hV => ct_X6_of l G a _ _ _ _ hw h n u hV) (by decide) (by decide) rfl (lw_V q1844 q1846 qs35 q77 q1847) sg_X6_of (Nat.le_of_ble_eq_true rfl) dX6_isRiper_3 (fun v2 σ1 hw => ?_)
  refine a_aload_0 (pc := 6) C dX6_isRiper_6 ?_
  refine a_iload_2 (pc := 7) C dX6_isRiper_7 ?_
  refine a_iconst (pc := 8) C dX6_isRiper_8 ic_5 ?_
  refine m_callV2i (pc := 9) C hs (fun h n u hV => ct_X6_of l G a _ _ _ _ hw h n u hV) (by decide) (by decide) rfl (lw_V q1844 q1846 qs35 q77 q1847) sg_X6_of (Nat.le_of_ble_eq_true rfl) dX6_isRiper_9 (fun v4 σ3 hw => ?_)
  refine a_isub (pc := 12) C dX6_isRiper_12 ?_
  refine a_istore_3 (pc := 13) C dX6_isRiper_13 (by decide) rfl ?_
  refine a_aload_0 (pc := 14) C dX6_isRiper_14 ?_
  refine a_iload_1 (pc := 15) C dX6_isRiper_15 ?_
  refine a_bipush (pc := 16) C dX6_isRiper_16 bc_6 ?_
  refine m_callV2i (pc := 18) C hs (fun h n u hV => ct_X6_of l G a _ _ _ _ hw h n u hV) (by decide) (by decide) rfl (lw_V q1844 q1846 qs35 q77 q1847) sg_X6_of (Nat.le_of_ble_eq_true rfl) dX6_isRiper_18 (fun v6 σ5 hw => ?_)
  refine a_aload_0 (pc := 21) C dX6_isRiper_21 ?_
  refine a_iload_2 (pc := 22) C dX6_isRiper_22 ?_
  refine a_bipush (pc := 23) C dX6_isRiper_23 bc_6 ?_
  refine m_callV2i (pc := 25) C hs (fun h n u hV => ct_X6_of l G a _ _ _ _ hw h n u hV) (by decide) (by decide) rfl (lw_V q1844 q1846 qs35 q77 q1847) sg_X6_of (Nat.le_of_ble_eq_true rfl) dX6_isRiper_25 (fun v8 σ7 hw => ?_)
  refine a_isub (pc := 28) C dX6_isRiper_28 ?_
  refine a_istore_4 (pc := 29) C dX6_isRiper_29 (by decide) rfl ?_
  refine a_iload_3 (pc := 31) C dX6_isRiper_31 ?_
  refine a_if_gt (pc := 32) C 54 dX6_isRiper_32 (by decide) (fun c9 => ?_) (fun c9 => ?_)
  · have hw := hw.1 c9
    refine a_iconst (pc := 54) C dX6_isRiper_54 ic_1 ?_
    refine a_goto (pc := 55) C 59 dX6_isRiper_55 (by decide) ?_
    exact a_zret rfl C dX6_isRiper_59 (fun h n u hV => ⟨⟨(_, _), rfl, hw, hV⟩, m_end hs hV⟩)
  · have hw := hw.2 c9
    refine a_iload_3 (pc := 35) C dX6_isRiper_35 ?_
    refine a_if_ne (pc := 36) C 58 dX6_isRiper_36 (by decide) (fun c10 => ?_) (fun c10 => ?_)
    · have hw := hw.1 c10
      refine a_iconst (pc := 58) C dX6_isRiper_58 ic_0 ?_
      exact a_zret rfl C dX6_isRiper_59 (fun h n u hV => ⟨⟨(_, _), rfl, hw, hV⟩, m_end hs hV⟩)
    · have hw := hw.2 c10
      refine a_iload_4 (pc := 39) C dX6_isRiper_39 ?_
      refine a_if_gt (pc := 41) C 54 dX6_isRiper_41 (by decide) (fun c11 => ?_) (fun c11 => ?_)
      · have hw := hw.1 c11
        refine a_iconst (pc := 54) C dX6_isRiper_54 ic_1 ?_
        refine a_goto (pc := 55) C 59 dX6_isRiper_55 (by decide) ?_
        exact a_zret rfl C dX6_isRiper_59 (fun h n u hV => ⟨⟨(_, _), rfl, hw, hV⟩, m_end hs hV⟩)
      · have hw := hw.2 c11
        refine a_iload_4 (pc := 44) C dX6_isRiper_44 ?_
        refine a_if_ne (pc := 46) C 58 dX6_isRiper_46 (by decide) (fun c12 => ?_) (fun c12 => ?_)
        · have hw := hw.1 c12
          refine a_iconst (pc := 58) C dX6_isRiper_58 ic_0 ?_
          exact a_zret rfl C dX6_isRiper_59 (fun h n u hV => ⟨⟨(_, _), rfl, hw, hV⟩, m_end hs hV⟩)
        · have hw := hw.2 c12
          refine a_iload_1 (pc := 49) C dX6_isRiper_49 ?_
          refine a_iload_2 (pc := 50) C dX6_isRiper_50 ?_
          refine a_icmp_ge (pc := 51) C 58 dX6_isRiper_51 (by decide) (fun c13 => ?_) (fun c13 => ?_)
          · have hw := hw.1 c13
            refine a_iconst (pc := 58) C dX6_isRiper_58 ic_0 ?_
            exact a_zret rfl C dX6_isRiper_59 (fun h n u hV => ⟨⟨(_, _), rfl, hw, hV⟩, m_end hs hV⟩)
          · have hw := hw.2 c13
            refine a_iconst (pc := 54) C dX6_isRiper_54 ic_1 ?_
            refine a_goto (pc := 55) C 59 dX6_isRiper_55 (by decide) ?_
            exact a_zret rfl C dX6_isRiper_59 (fun h n u hV => ⟨⟨(_, _), rfl, hw, hV⟩, m_end hs hV⟩)
def wp_X6_ripest_L40 (kx18 : Int32 → Int32 → MS → Prop) (x8 : Int32) : Nat → Int32 → Int32 → MS → Prop
  | 0, _, _, _ => False
  | F + 1, x15, x16, σ17 => (vp_in 7 (mLen 0) ∧ ((((σ17 0 (7 : Int32).toNatClampNeg) ≤ x16) → (kx18 x15 x16 σ17)) ∧ ((¬ (σ17 0 (7 : Int32).toNatClampNeg) ≤ x16) → (wp_X6_isGrowing x16 σ17 (fun v30 σ29 => (jn (fun (x33 : Int32) (σ34 : MS) => (wp_X6_ripest_L40 kx18 x8 F (x15 + x33) (x16 + 1) σ34)) (fun kj32 => (((v30 = 0) → (kj32 0 σ29)) ∧ ((¬ v30 = 0) → (wp_X6_isRiper x16 x8 σ29 (fun v36 σ35 => (((v36 = 0) → (kj32 0 σ35)) ∧ ((¬ v36 = 0) → (kj32 1 σ35))))))))))))))
def wp_X6_ripest_L23 (kx10 : Int32 → Int32 → MS → Prop) (p1 : Int32) : Nat → Int32 → Int32 → MS → Prop
  | 0, _, _, _ => False
  | F + 1, x7, x8, σ9 => (vp_in 7 (mLen 0) ∧ ((((σ9 0 (7 : Int32).toNatClampNeg) ≤ x8) → (kx10 x7 x8 σ9)) ∧ ((¬ (σ9 0 (7 : Int32).toNatClampNeg) ≤ x8) → (jn (fun (x19 : Int32) (x20 : Int32) (σ21 : MS) => (wp_X6_isGrowing x8 σ21 (fun v23 σ22 => (jn (fun (x26 : Int32) => (wp_X6_ripest_L23 kx10 p1 F x26 (x8 + 1) σ22)) (fun kj25 => (((v23 = 0) → (kj25 x7)) ∧ ((¬ v23 = 0) → (((¬ x19 = p1) → (kj25 x7)) ∧ ((x19 = p1) → (kj25 x8)))))))))) (fun kx18 => wp_X6_ripest_L40 kx18 x8 mF 0 0 σ9)))))
def wp_X6_ripest (p1 : Int32) (σ : MS) (Q : Int32 → MS → Prop) : Prop := (jn (fun (x3 : Int32) => (wp_X6_goes x3 1 σ (fun v5 σ4 => (((¬ v5 = 0) → (jn (fun (x11 : Int32) (x12 : Int32) (σ13 : MS) => (Q x11 σ13)) (fun kx10 => wp_X6_ripest_L23 kx10 p1 mF ((-1)) 0 σ4))) ∧ ((v5 = 0) → (Q 0 σ4)))))) (fun kj2 => (((p1 < 0) → (kj2 0)) ∧ ((¬ p1 < 0) → (kj2 1)))))
theorem sg_X6_ripest : aSig yX6_ripest 1 := by decide +kernel
set_option maxHeartbeats 4000000 in
theorem ct_X6_ripest (l : Launch) (G : aG) (a : Nat) (p1 : Int32)  (σ : MS) (Q : Int32 → MS → Prop) (hw : wp_X6_ripest p1 σ Q) (h0 : AH) (n0 u0 : Nat) (hV : MV h0 a σ) : CT l yX6_ripest (ws_ yX6_ripest cX6_ripest 6 (some .int)) 3 G [.ref a, .int p1] h0 n0 u0 0 0 (m_pi Q h0 n0 u0 a) := by
  refine CT.intro [some (.ref a), some (.int p1), none, none, none, none] pn_RX6 rfl (Nat.le_of_ble_eq_true rfl) ?_
  intro p e s m args below meth c C hz hu
  have hs : s.heap.size = n0 ∧ slT s.heap = u0 := ⟨hz, hu⟩
  refine a_world (V1 := MW h0 n0 u0 a σ) (MW.start hV) ?_
  unfold wp_X6_ripest at hw
  refine a_aload_0 (pc := 0) C dX6_ripest_0 ?_
  refine a_iload_1 (pc := 1) C dX6_ripest_1 ?_
  refine jn_use hw (fun kj2 ekj2 hw => ?_)
  have hkj2 : ∀ (x3 : Int32), kj2 x3 → AW G p l e (aRm 3 0 0) s m args below meth c (a_A h0 n0) 6 (MQ below (a_Qc G (m_pi Q h0 n0 u0 a) (a_A h0 n0)) args s 0 0 (a_A h0 n0)) (MW h0 n0 u0 a σ) 10 [some (.ref a), some (.int p1), none, none, none, none] [.int x3, .ref a] := by
    intro x3 hw
    rw [ekj2] at hw
    refine a_iconst (pc := 10) C dX6_ripest_10 ic_1 ?_
    refine m_callV2i (pc := 11) C hs (fun h n u hV => ct_X6_goes l G a _ _ _ _ hw h n u hV) (by decide) (by decide) rfl (lw_V q1794 q1796 qs29 q77 q1797) sg_X6_goes (Nat.le_of_ble_eq_true rfl) dX6_ripest_11 (fun v5 σ4 hw => ?_)
    refine a_if_ne (pc := 14) C 19 dX6_ripest_14 (by decide) (fun c6 => ?_) (fun c6 => ?_)
    · have hw := hw.1 c6
      refine a_iconst (pc := 19) C dX6_ripest_19 ic_m1 ?_
      refine a_istore_2 (pc := 20) C dX6_ripest_20 (by decide) rfl ?_
      refine a_iconst (pc := 21) C dX6_ripest_21 ic_0 ?_
      refine a_istore_3 (pc := 22) C dX6_ripest_22 (by decide) rfl ?_
      refine jn_use hw (fun kx10 ekx10 hw => ?_)
      have hkx10 : ∀ (x11 : Int32) (x12 : Int32) (σ13 : MS), kx10 x11 x12 σ13 → AW G p l e (aRm 3 0 0) s m args below meth c (a_A h0 n0) 6 (MQ below (a_Qc G (m_pi Q h0 n0 u0 a) (a_A h0 n0)) args s 0 0 (a_A h0 n0)) (MW h0 n0 u0 a σ13) 113 [some (.ref a), some (.int p1), some (.int x11), some (.int x12), none, none] [] := by
        intro x11 x12 σ13 hw
        rw [ekx10] at hw
        refine a_iload_2 (pc := 113) C dX6_ripest_113 ?_
        exact a_iret C dX6_ripest_114 (fun h n u hV => ⟨⟨(_, _), rfl, hw, hV⟩, m_end hs hV⟩)
      have lp23 : ∀ (F : Nat) (x7 : Int32) (x8 : Int32) (σ9 : MS), wp_X6_ripest_L23 kx10 p1 F x7 x8 σ9 → AW G p l e (aRm 3 0 0) s m args below meth c (a_A h0 n0) 6 (MQ below (a_Qc G (m_pi Q h0 n0 u0 a) (a_A h0 n0)) args s 0 0 (a_A h0 n0)) (MW h0 n0 u0 a σ9) 23 [some (.ref a), some (.int p1), some (.int x7), some (.int x8), none, none] [] := by
        intro F
        induction F with
        | zero => intro x7 x8 σ9 hw; exact False.elim hw
        | succ F ih =>
          intro x7 x8 σ9 hw
          rw [wp_X6_ripest_L23] at hw
          refine a_iload_3 (pc := 23) C dX6_ripest_23 ?_
          refine a_aload_0 (pc := 24) C dX6_ripest_24 ?_
          refine m_get_z (pc := 25) C q1758 dX6_ripest_25 ?_
          refine a_bipush (pc := 28) C dX6_ripest_28 bc_7 ?_
          refine m_iald (pc := 30) C (by decide) hw.1 dX6_ripest_30 ?_
          have hw := hw.2
          refine a_icmp_ge (pc := 31) C 113 dX6_ripest_31 (by decide) (fun c14 => ?_) (fun c14 => ?_)
          · have hw := hw.1 c14
            exact hkx10 _ _ _ hw
          · have hw := hw.2 c14
            refine a_iconst (pc := 34) C dX6_ripest_34 ic_0 ?_
            refine a_istore_4 (pc := 35) C dX6_ripest_35 (by decide) rfl ?_
            refine a_iconst (pc := 37) C dX6_ripest_37 ic_0 ?_
            refine a_istore_5 (pc := 38) C dX6_ripest_38 (by decide) rfl ?_
            refine jn_use hw (fun kx18 ekx18 hw => ?_)
            have hkx18 : ∀ (x19 : Int32) (x20 : Int32) (σ21 : MS), kx18 x19 x20 σ21 → AW G p l e (aRm 3 0 0) s m args below meth c (a_A h0 n0) 6 (MQ below (a_Qc G (m_pi Q h0 n0 u0 a) (a_A h0 n0)) args s 0 0 (a_A h0 n0)) (MW h0 n0 u0 a σ21) 87 [some (.ref a), some (.int p1), some (.int x7), some (.int x8), some (.int x19), some (.int x20)] [] := by
              intro x19 x20 σ21 hw
              rw [ekx18] at hw
              refine a_aload_0 (pc := 87) C dX6_ripest_87 ?_
              refine a_iload_3 (pc := 88) C dX6_ripest_88 ?_
              refine m_callV1i (pc := 89) C hs (fun h n u hV => ct_X6_isGrowing l G a _ _ _ hw h n u hV) (by decide) (by decide) rfl (lw_V q1878 q1880 qs41 q77 q1881) sg_X6_isGrowing (Nat.le_of_ble_eq_true rfl) dX6_ripest_89 (fun v23 σ22 hw => ?_)
              refine jn_use hw (fun kj25 ekj25 hw => ?_)
              have hkj25 : ∀ (x26 : Int32), kj25 x26 → AW G p l e (aRm 3 0 0) s m args below meth c (a_A h0 n0) 6 (MQ below (a_Qc G (m_pi Q h0 n0 u0 a) (a_A h0 n0)) args s 0 0 (a_A h0 n0)) (MW h0 n0 u0 a σ22) 106 [some (.ref a), some (.int p1), some (.int x7), some (.int x8), some (.int x19), some (.int x20)] [.int x26] := by
                intro x26 hw
                rw [ekj25] at hw
                refine a_istore_2 (pc := 106) C dX6_ripest_106 (by decide) rfl ?_
                refine a_iinc_3 (pc := 107) (v := 1) C dX6_ripest_107 (by decide) (by decide) rfl ?_
                refine a_goto (pc := 110) C 23 dX6_ripest_110 (by decide) ?_
                exact a_weak (a_le_some (a_le_some (a_le_some (a_le_some (a_le_none (a_le_none a_le_nil)))))) (ih _ _ _ hw)
              refine a_if_eq (pc := 92) C 105 dX6_ripest_92 (by decide) (fun c24 => ?_) (fun c24 => ?_)
              · have hw := hw.1 c24
                refine a_iload_2 (pc := 105) C dX6_ripest_105 ?_
                exact hkj25 _ hw
              · have hw := hw.2 c24
                refine a_iload_4 (pc := 95) C dX6_ripest_95 ?_
                refine a_iload_1 (pc := 97) C dX6_ripest_97 ?_
                refine a_icmp_ne (pc := 98) C 105 dX6_ripest_98 (by decide) (fun c27 => ?_) (fun c27 => ?_)
                · have hw := hw.1 c27
                  refine a_iload_2 (pc := 105) C dX6_ripest_105 ?_
                  exact hkj25 _ hw
                · have hw := hw.2 c27
                  refine a_iload_3 (pc := 101) C dX6_ripest_101 ?_
                  refine a_goto (pc := 102) C 106 dX6_ripest_102 (by decide) ?_
                  exact hkj25 _ hw
            have lp40 : ∀ (F : Nat) (x15 : Int32) (x16 : Int32) (σ17 : MS), wp_X6_ripest_L40 kx18 x8 F x15 x16 σ17 → AW G p l e (aRm 3 0 0) s m args below meth c (a_A h0 n0) 6 (MQ below (a_Qc G (m_pi Q h0 n0 u0 a) (a_A h0 n0)) args s 0 0 (a_A h0 n0)) (MW h0 n0 u0 a σ17) 40 [some (.ref a), some (.int p1), some (.int x7), some (.int x8), some (.int x15), some (.int x16)] [] := by
              intro F
              induction F with
              | zero => intro x15 x16 σ17 hw; exact False.elim hw
              | succ F ih =>
                intro x15 x16 σ17 hw
                rw [wp_X6_ripest_L40] at hw
                refine a_iload_5 (pc := 40) C dX6_ripest_40 ?_
                refine a_aload_0 (pc := 42) C dX6_ripest_42 ?_
                refine m_get_z (pc := 43) C q1758 dX6_ripest_43 ?_
                refine a_bipush (pc := 46) C dX6_ripest_46 bc_7 ?_
                refine m_iald (pc := 48) C (by decide) hw.1 dX6_ripest_48 ?_
                have hw := hw.2
                refine a_icmp_ge (pc := 49) C 87 dX6_ripest_49 (by decide) (fun c28 => ?_) (fun c28 => ?_)
                · have hw := hw.1 c28
                  exact hkx18 _ _ _ hw
                · have hw := hw.2 c28
                  refine a_iload_4 (pc := 52) C dX6_ripest_52 ?_
                  refine a_aload_0 (pc := 54) C dX6_ripest_54 ?_
                  refine a_iload_5 (pc := 55) C dX6_ripest_55 ?_
                  refine m_callV1i (pc := 57) C hs (fun h n u hV => ct_X6_isGrowing l G a _ _ _ hw h n u hV) (by decide) (by decide) rfl (lw_V q1878 q1880 qs41 q77 q1881) sg_X6_isGrowing (Nat.le_of_ble_eq_true rfl) dX6_ripest_57 (fun v30 σ29 hw => ?_)
                  refine jn_use hw (fun kj32 ekj32 hw => ?_)
                  have hkj32 : ∀ (x33 : Int32) (σ34 : MS), kj32 x33 σ34 → AW G p l e (aRm 3 0 0) s m args below meth c (a_A h0 n0) 6 (MQ below (a_Qc G (m_pi Q h0 n0 u0 a) (a_A h0 n0)) args s 0 0 (a_A h0 n0)) (MW h0 n0 u0 a σ34) 78 [some (.ref a), some (.int p1), some (.int x7), some (.int x8), some (.int x15), some (.int x16)] [.int x33, .int x15] := by
                    intro x33 σ34 hw
                    rw [ekj32] at hw
                    refine a_iadd (pc := 78) C dX6_ripest_78 ?_
                    refine a_istore_4 (pc := 79) C dX6_ripest_79 (by decide) rfl ?_
                    refine a_iinc_5 (pc := 81) (v := 1) C dX6_ripest_81 (by decide) (by decide) rfl ?_
                    refine a_goto (pc := 84) C 40 dX6_ripest_84 (by decide) ?_
                    exact ih _ _ _ hw
                  refine a_if_eq (pc := 60) C 77 dX6_ripest_60 (by decide) (fun c31 => ?_) (fun c31 => ?_)
                  · have hw := hw.1 c31
                    refine a_iconst (pc := 77) C dX6_ripest_77 ic_0 ?_
                    exact hkj32 _ _ hw
                  · have hw := hw.2 c31
                    refine a_aload_0 (pc := 63) C dX6_ripest_63 ?_
                    refine a_iload_5 (pc := 64) C dX6_ripest_64 ?_
                    refine a_iload_3 (pc := 66) C dX6_ripest_66 ?_
                    refine m_callV2i (pc := 67) C hs (fun h n u hV => ct_X6_isRiper l G a _ _ _ _ hw h n u hV) (by decide) (by decide) rfl (lw_V q2085 q2087 qs63 q77 q2088) sg_X6_isRiper (Nat.le_of_ble_eq_true rfl) dX6_ripest_67 (fun v36 σ35 hw => ?_)
                    refine a_if_eq (pc := 70) C 77 dX6_ripest_70 (by decide) (fun c37 => ?_) (fun c37 => ?_)
                    · have hw := hw.1 c37
                      refine a_iconst (pc := 77) C dX6_ripest_77 ic_0 ?_
                      exact hkj32 _ _ hw
                    · have hw := hw.2 c37
                      refine a_iconst (pc := 73) C dX6_ripest_73 ic_1 ?_
                      refine a_goto (pc := 74) C 78 dX6_ripest_74 (by decide) ?_
                      exact hkj32 _ _ hw
            exact lp40 mF _ _ _ hw
      exact lp23 mF _ _ _ hw
    · have hw := hw.2 c6
      refine a_iconst (pc := 17) C dX6_ripest_17 ic_0 ?_
      exact a_iret C dX6_ripest_18 (fun h n u hV => ⟨⟨(_, _), rfl, hw, hV⟩, m_end hs hV⟩)
  refine a_if_lt (pc := 2) C 9 dX6_ripest_2 (by decide) (fun c1 => ?_) (fun c1 => ?_)
  · have hw := hw.1 c1
    refine a_iconst (pc := 9) C dX6_ripest_9 ic_0 ?_
    exact hkj2 _ hw
  · have hw := hw.2 c1
    refine a_iconst (pc := 5) C dX6_ripest_5 ic_1 ?_
    refine a_goto (pc := 6) C 10 dX6_ripest_6 (by decide) ?_
    exact hkj2 _ hw
def wp_X6_lotIn (p1 : Int32) (σ : MS) (Q : Int32 → MS → Prop) : Prop := (wp_X6_isDrum p1 (fun v1 => (wp_X6_goes v1 1 σ (fun v3 σ2 => (((v3 = 0) → (Q 0 σ2)) ∧ ((¬ v3 = 0) → (wp_X6_inDrum p1 σ2 (fun v6 σ5 => (Q v6 σ5)))))))))
theorem sg_X6_lotIn : aSig yX6_lotIn 1 := by decide +kernel
set_option maxHeartbeats 4000000 in
theorem ct_X6_lotIn (l : Launch) (G : aG) (a : Nat) (p1 : Int32)  (σ : MS) (Q : Int32 → MS → Prop) (hw : wp_X6_lotIn p1 σ Q) (h0 : AH) (n0 u0 : Nat) (hV : MV h0 a σ) : CT l yX6_lotIn (ws_ yX6_lotIn cX6_lotIn 2 (some .int)) 3 G [.ref a, .int p1] h0 n0 u0 0 0 (m_pi Q h0 n0 u0 a) := by
  refine CT.intro [some (.ref a), some (.int p1)] pn_RX6 rfl (Nat.le_of_ble_eq_true rfl) ?_
  intro p e s m args below meth c C hz hu
  have hs : s.heap.size = n0 ∧ slT s.heap = u0 := ⟨hz, hu⟩
  refine a_world (V1 := MW h0 n0 u0 a σ) (MW.start hV) ?_
  unfold wp_X6_lotIn at hw
  refine a_aload_0 (pc := 0) C dX6_lotIn_0 ?_
  refine a_iload_1 (pc := 1) C dX6_lotIn_1 ?_
  refine m_callS1p (pc := 2) C hs (fun h n u => ct_X6_isDrum l G _ _ hw h n u) (by decide) (by decide) (lw_S q1871 q1872 q77 q1873) sg_X6_isDrum (Nat.le_of_ble_eq_true rfl) dX6_lotIn_2 (fun v1 hw => ?_)
  refine a_iconst (pc := 5) C dX6_lotIn_5 ic_1 ?_
  refine m_callV2i (pc := 6) C hs (fun h n u hV => ct_X6_goes l G a _ _ _ _ hw h n u hV) (by decide) (by decide) rfl (lw_V q1794 q1796 qs29 q77 q1797) sg_X6_goes (Nat.le_of_ble_eq_true rfl) dX6_lotIn_6 (fun v3 σ2 hw => ?_)
  refine a_if_eq (pc := 9) C 20 dX6_lotIn_9 (by decide) (fun c4 => ?_) (fun c4 => ?_)
  · have hw := hw.1 c4
    refine a_iconst (pc := 20) C dX6_lotIn_20 ic_0 ?_
    exact a_iret C dX6_lotIn_21 (fun h n u hV => ⟨⟨(_, _), rfl, hw, hV⟩, m_end hs hV⟩)
  · have hw := hw.2 c4
    refine a_aload_0 (pc := 12) C dX6_lotIn_12 ?_
    refine a_iload_1 (pc := 13) C dX6_lotIn_13 ?_
    refine m_callV1i (pc := 14) C hs (fun h n u hV => ct_X6_inDrum l G a _ _ _ hw h n u hV) (by decide) (by decide) rfl (lw_V q1882 q1884 qs42 q77 q1885) sg_X6_inDrum (Nat.le_of_ble_eq_true rfl) dX6_lotIn_14 (fun v6 σ5 hw => ?_)
    refine a_goto (pc := 17) C 21 dX6_lotIn_17 (by decide) ?_
    exact a_iret C dX6_lotIn_21 (fun h n u hV => ⟨⟨(_, _), rfl, hw, hV⟩, m_end hs hV⟩)
def wp_X6_settingsOf (p1 : Int32) (σ : MS) (Q : Int32 → MS → Prop) : Prop := (wp_X6_isDrum p1 (fun v1 => (wp_X6_goes v1 1 σ (fun v3 σ2 => (((v3 = 0) → (Q 0 σ2)) ∧ ((¬ v3 = 0) → (vp_in (32 + (3 * p1)) (mLen 0) ∧ (vp_in ((32 + (3 * p1)) + 1) (mLen 0) ∧ (vp_in ((32 + (3 * p1)) + 2) (mLen 0) ∧ (Q (((100 * (σ2 0 (32 + (3 * p1)).toNatClampNeg)) + (10 * (σ2 0 ((32 + (3 * p1)) + 1).toNatClampNeg))) + (σ2 0 ((32 + (3 * p1)) + 2).toNatClampNeg)) σ2))))))))))
theorem sg_X6_settingsOf : aSig yX6_settingsOf 1 := by decide +kernel
set_option maxHeartbeats 4000000 in
theorem ct_X6_settingsOf (l : Launch) (G : aG) (a : Nat) (p1 : Int32)  (σ : MS) (Q : Int32 → MS → Prop) (hw : wp_X6_settingsOf p1 σ Q) (h0 : AH) (n0 u0 : Nat) (hV : MV h0 a σ) : CT l yX6_settingsOf (ws_ yX6_settingsOf cX6_settingsOf 2 (some .int)) 3 G [.ref a, .int p1] h0 n0 u0 0 0 (m_pi Q h0 n0 u0 a) := by
  refine CT.intro [some (.ref a), some (.int p1)] pn_RX6 rfl (Nat.le_of_ble_eq_true rfl) ?_
  intro p e s m args below meth c C hz hu
  have hs : s.heap.size = n0 ∧ slT s.heap = u0 := ⟨hz, hu⟩
  refine a_world (V1 := MW h0 n0 u0 a σ) (MW.start hV) ?_
  unfold wp_X6_settingsOf at hw
  refine a_aload_0 (pc := 0) C dX6_settingsOf_0 ?_
  refine a_iload_1 (pc := 1) C dX6_settingsOf_1 ?_
  refine m_callS1p (pc := 2) C hs (fun h n u => ct_X6_isDrum l G _ _ hw h n u) (by decide) (by decide) (lw_S q1871 q1872 q77 q1873) sg_X6_isDrum (Nat.le_of_ble_eq_true rfl) dX6_settingsOf_2 (fun v1 hw => ?_)
  refine a_iconst (pc := 5) C dX6_settingsOf_5 ic_1 ?_
  refine m_callV2i (pc := 6) C hs (fun h n u hV => ct_X6_goes l G a _ _ _ _ hw h n u hV) (by decide) (by decide) rfl (lw_V q1794 q1796 qs29 q77 q1797) sg_X6_goes (Nat.le_of_ble_eq_true rfl) dX6_settingsOf_6 (fun v3 σ2 hw => ?_)
  refine a_if_eq (pc := 9) C 60 dX6_settingsOf_9 (by decide) (fun c4 => ?_) (fun c4 => ?_)
  · have hw := hw.1 c4
    refine a_iconst (pc := 60) C dX6_settingsOf_60 ic_0 ?_
    exact a_iret C dX6_settingsOf_61 (fun h n u hV => ⟨⟨(_, _), rfl, hw, hV⟩, m_end hs hV⟩)
  · have hw := hw.2 c4
    refine a_bipush (pc := 12) C dX6_settingsOf_12 bc_100 ?_
    refine a_aload_0 (pc := 14) C dX6_settingsOf_14 ?_
    refine m_get_z (pc := 15) C q1758 dX6_settingsOf_15 ?_
    refine a_bipush (pc := 18) C dX6_settingsOf_18 bc_32 ?_
    refine a_iconst (pc := 20) C dX6_settingsOf_20 ic_3 ?_
    refine a_iload_1 (pc := 21) C dX6_settingsOf_21 ?_
    refine a_imul (pc := 22) C dX6_settingsOf_22 ?_
    refine a_iadd (pc := 23) C dX6_settingsOf_23 ?_
    refine m_iald (pc := 24) C (by decide) hw.1 dX6_settingsOf_24 ?_
    have hw := hw.2
    refine a_imul (pc := 25) C dX6_settingsOf_25 ?_
    refine a_bipush (pc := 26) C dX6_settingsOf_26 bc_10 ?_
    refine a_aload_0 (pc := 28) C dX6_settingsOf_28 ?_
    refine m_get_z (pc := 29) C q1758 dX6_settingsOf_29 ?_
    refine a_bipush (pc := 32) C dX6_settingsOf_32 bc_32 ?_
    refine a_iconst (pc := 34) C dX6_settingsOf_34 ic_3 ?_
    refine a_iload_1 (pc := 35) C dX6_settingsOf_35 ?_
    refine a_imul (pc := 36) C dX6_settingsOf_36 ?_
    refine a_iadd (pc := 37) C dX6_settingsOf_37 ?_
    refine a_iconst (pc := 38) C dX6_settingsOf_38 ic_1 ?_
    refine a_iadd (pc := 39) C dX6_settingsOf_39 ?_
    refine m_iald (pc := 40) C (by decide) hw.1 dX6_settingsOf_40 ?_
    have hw := hw.2
    refine a_imul (pc := 41) C dX6_settingsOf_41 ?_
    refine a_iadd (pc := 42) C dX6_settingsOf_42 ?_
    refine a_aload_0 (pc := 43) C dX6_settingsOf_43 ?_
    refine m_get_z (pc := 44) C q1758 dX6_settingsOf_44 ?_
    refine a_bipush (pc := 47) C dX6_settingsOf_47 bc_32 ?_
    refine a_iconst (pc := 49) C dX6_settingsOf_49 ic_3 ?_
    refine a_iload_1 (pc := 50) C dX6_settingsOf_50 ?_
    refine a_imul (pc := 51) C dX6_settingsOf_51 ?_
    refine a_iadd (pc := 52) C dX6_settingsOf_52 ?_
    refine a_iconst (pc := 53) C dX6_settingsOf_53 ic_2 ?_
    refine a_iadd (pc := 54) C dX6_settingsOf_54 ?_
    refine m_iald (pc := 55) C (by decide) hw.1 dX6_settingsOf_55 ?_
    have hw := hw.2
    refine a_iadd (pc := 56) C dX6_settingsOf_56 ?_
    refine a_goto (pc := 57) C 61 dX6_settingsOf_57 (by decide) ?_
    exact a_iret C dX6_settingsOf_61 (fun h n u hV => ⟨⟨(_, _), rfl, hw, hV⟩, m_end hs hV⟩)
def wp_X6_isLit (σ : MS) (Q : Int32 → MS → Prop) : Prop := (∀ σ1 : MS, σ1 = mU σ 5 3 0 → (vp_in 1 (mLen 0) ∧ (((¬ (σ1 0 (1 : Int32).toNatClampNeg) = 1) → (Q 0 σ1)) ∧ (((σ1 0 (1 : Int32).toNatClampNeg) = 1) → (Q 1 σ1)))))
theorem sg_X6_isLit : aSig yX6_isLit 0 := by decide +kernel
set_option maxHeartbeats 4000000 in
theorem ct_X6_isLit (l : Launch) (G : aG) (a : Nat)   (σ : MS) (Q : Int32 → MS → Prop) (hw : wp_X6_isLit  σ Q) (h0 : AH) (n0 u0 : Nat) (hV : MV h0 a σ) : CT l yX6_isLit (ws_ yX6_isLit cX6_isLit 1 (some .boolean)) 1 G [.ref a] h0 n0 u0 0 0 (m_pi Q h0 n0 u0 a) := by
  refine CT.intro [some (.ref a)] pn_RX6 rfl (Nat.le_of_ble_eq_true rfl) ?_
  intro p e s m args below meth c C hz hu
  have hs : s.heap.size = n0 ∧ slT s.heap = u0 := ⟨hz, hu⟩
  refine a_world (V1 := MW h0 n0 u0 a σ) (MW.start hV) ?_
  unfold wp_X6_isLit at hw
  refine a_aload_0 (pc := 0) C dX6_isLit_0 ?_
  refine a_iconst (pc := 1) C dX6_isLit_1 ic_0 ?_
  refine m_put_thrown (pc := 2) C q1766 dX6_isLit_2 (fun σ1 eσ1 => ?_)
  have hw := hw σ1 eσ1
  refine a_aload_0 (pc := 5) C dX6_isLit_5 ?_
  refine m_get_z (pc := 6) C q1758 dX6_isLit_6 ?_
  refine a_iconst (pc := 9) C dX6_isLit_9 ic_1 ?_
  refine m_iald (pc := 10) C (by decide) hw.1 dX6_isLit_10 ?_
  have hw := hw.2
  refine a_iconst (pc := 11) C dX6_isLit_11 ic_1 ?_
  refine a_icmp_ne (pc := 12) C 19 dX6_isLit_12 (by decide) (fun c2 => ?_) (fun c2 => ?_)
  · have hw := hw.1 c2
    refine a_iconst (pc := 19) C dX6_isLit_19 ic_0 ?_
    exact a_zret rfl C dX6_isLit_20 (fun h n u hV => ⟨⟨(_, _), rfl, hw, hV⟩, m_end hs hV⟩)
  · have hw := hw.2 c2
    refine a_iconst (pc := 15) C dX6_isLit_15 ic_1 ?_
    refine a_goto (pc := 16) C 20 dX6_isLit_16 (by decide) ?_
    exact a_zret rfl C dX6_isLit_20 (fun h n u hV => ⟨⟨(_, _), rfl, hw, hV⟩, m_end hs hV⟩)
def wp_X6_litFor (σ : MS) (Q : Int32 → MS → Prop) : Prop := (∀ σ1 : MS, σ1 = mU σ 5 3 0 → (vp_in 2 (mLen 0) ∧ (Q (σ1 0 (2 : Int32).toNatClampNeg) σ1)))
theorem sg_X6_litFor : aSig yX6_litFor 0 := by decide +kernel
set_option maxHeartbeats 4000000 in
theorem ct_X6_litFor (l : Launch) (G : aG) (a : Nat)   (σ : MS) (Q : Int32 → MS → Prop) (hw : wp_X6_litFor  σ Q) (h0 : AH) (n0 u0 : Nat) (hV : MV h0 a σ) : CT l yX6_litFor (ws_ yX6_litFor cX6_litFor 1 (some .int)) 1 G [.ref a] h0 n0 u0 0 0 (m_pi Q h0 n0 u0 a) := by
  refine CT.intro [some (.ref a)] pn_RX6 rfl (Nat.le_of_ble_eq_true rfl) ?_
  intro p e s m args below meth c C hz hu
  have hs : s.heap.size = n0 ∧ slT s.heap = u0 := ⟨hz, hu⟩
  refine a_world (V1 := MW h0 n0 u0 a σ) (MW.start hV) ?_
  unfold wp_X6_litFor at hw
  refine a_aload_0 (pc := 0) C dX6_litFor_0 ?_
  refine a_iconst (pc := 1) C dX6_litFor_1 ic_0 ?_
  refine m_put_thrown (pc := 2) C q1766 dX6_litFor_2 (fun σ1 eσ1 => ?_)
  have hw := hw σ1 eσ1
  refine a_aload_0 (pc := 5) C dX6_litFor_5 ?_
  refine m_get_z (pc := 6) C q1758 dX6_litFor_6 ?_
  refine a_iconst (pc := 9) C dX6_litFor_9 ic_2 ?_
  refine m_iald (pc := 10) C (by decide) hw.1 dX6_litFor_10 ?_
  have hw := hw.2
  exact a_iret C dX6_litFor_11 (fun h n u hV => ⟨⟨(_, _), rfl, hw, hV⟩, m_end hs hV⟩)
def wp_X6_charge (σ : MS) (Q : Int32 → MS → Prop) : Prop := (∀ σ1 : MS, σ1 = mU σ 5 3 0 → (wp_X6_weightIn 4 σ1 (fun v3 σ2 => (Q v3 σ2))))
theorem sg_X6_charge : aSig yX6_charge 0 := by decide +kernel
set_option maxHeartbeats 4000000 in
theorem ct_X6_charge (l : Launch) (G : aG) (a : Nat)   (σ : MS) (Q : Int32 → MS → Prop) (hw : wp_X6_charge  σ Q) (h0 : AH) (n0 u0 : Nat) (hV : MV h0 a σ) : CT l yX6_charge (ws_ yX6_charge cX6_charge 1 (some .int)) 4 G [.ref a] h0 n0 u0 0 0 (m_pi Q h0 n0 u0 a) := by
  refine CT.intro [some (.ref a)] pn_RX6 rfl (Nat.le_of_ble_eq_true rfl) ?_
  intro p e s m args below meth c C hz hu
  have hs : s.heap.size = n0 ∧ slT s.heap = u0 := ⟨hz, hu⟩
  refine a_world (V1 := MW h0 n0 u0 a σ) (MW.start hV) ?_
  unfold wp_X6_charge at hw
  refine a_aload_0 (pc := 0) C dX6_charge_0 ?_
  refine a_iconst (pc := 1) C dX6_charge_1 ic_0 ?_
  refine m_put_thrown (pc := 2) C q1766 dX6_charge_2 (fun σ1 eσ1 => ?_)
  have hw := hw σ1 eσ1
  refine a_aload_0 (pc := 5) C dX6_charge_5 ?_
  refine a_iconst (pc := 6) C dX6_charge_6 ic_4 ?_
  refine m_callV1i (pc := 7) C hs (fun h n u hV => ct_X6_weightIn l G a _ _ _ hw h n u hV) (by decide) (by decide) rfl (lw_V q1902 q1904 qs45 q77 q1905) sg_X6_weightIn (Nat.le_of_ble_eq_true rfl) dX6_charge_7 (fun v3 σ2 hw => ?_)
  exact a_iret C dX6_charge_10 (fun h n u hV => ⟨⟨(_, _), rfl, hw, hV⟩, m_end hs hV⟩)
def wp_X6_spraysLeft (σ : MS) (Q : Int32 → MS → Prop) : Prop := (∀ σ1 : MS, σ1 = mU σ 5 3 0 → (vp_in 6 (mLen 0) ∧ (Q (σ1 0 (6 : Int32).toNatClampNeg) σ1)))
theorem sg_X6_spraysLeft : aSig yX6_spraysLeft 0 := by decide +kernel
set_option maxHeartbeats 4000000 in
theorem ct_X6_spraysLeft (l : Launch) (G : aG) (a : Nat)   (σ : MS) (Q : Int32 → MS → Prop) (hw : wp_X6_spraysLeft  σ Q) (h0 : AH) (n0 u0 : Nat) (hV : MV h0 a σ) : CT l yX6_spraysLeft (ws_ yX6_spraysLeft cX6_spraysLeft 1 (some .int)) 1 G [.ref a] h0 n0 u0 0 0 (m_pi Q h0 n0 u0 a) := by
  refine CT.intro [some (.ref a)] pn_RX6 rfl (Nat.le_of_ble_eq_true rfl) ?_
  intro p e s m args below meth c C hz hu
  have hs : s.heap.size = n0 ∧ slT s.heap = u0 := ⟨hz, hu⟩
  refine a_world (V1 := MW h0 n0 u0 a σ) (MW.start hV) ?_
  unfold wp_X6_spraysLeft at hw
  refine a_aload_0 (pc := 0) C dX6_spraysLeft_0 ?_
  refine a_iconst (pc := 1) C dX6_spraysLeft_1 ic_0 ?_
  refine m_put_thrown (pc := 2) C q1766 dX6_spraysLeft_2 (fun σ1 eσ1 => ?_)
  have hw := hw σ1 eσ1
  refine a_aload_0 (pc := 5) C dX6_spraysLeft_5 ?_
  refine m_get_z (pc := 6) C q1758 dX6_spraysLeft_6 ?_
  refine a_bipush (pc := 9) C dX6_spraysLeft_9 bc_6 ?_
  refine m_iald (pc := 11) C (by decide) hw.1 dX6_spraysLeft_11 ?_
  have hw := hw.2
  exact a_iret C dX6_spraysLeft_12 (fun h n u hV => ⟨⟨(_, _), rfl, hw, hV⟩, m_end hs hV⟩)
def wp_X6_whyNotSteep (p1 : Int32) (σ : MS) (Q : Int32 → MS → Prop) : Prop := (wp_X6_isLot p1 σ (fun v2 σ1 => (wp_X6_goes v2 1 σ1 (fun v4 σ3 => (((v4 = 0) → (Q 0 σ3)) ∧ ((¬ v4 = 0) → (wp_X6_noSteep p1 σ3 (fun v7 σ6 => (Q v7 σ6)))))))))
theorem sg_X6_whyNotSteep : aSig yX6_whyNotSteep 1 := by decide +kernel
set_option maxHeartbeats 4000000 in
theorem ct_X6_whyNotSteep (l : Launch) (G : aG) (a : Nat) (p1 : Int32)  (σ : MS) (Q : Int32 → MS → Prop) (hw : wp_X6_whyNotSteep p1 σ Q) (h0 : AH) (n0 u0 : Nat) (hV : MV h0 a σ) : CT l yX6_whyNotSteep (ws_ yX6_whyNotSteep cX6_whyNotSteep 2 (some .int)) 4 G [.ref a, .int p1] h0 n0 u0 0 0 (m_pi Q h0 n0 u0 a) := by
  refine CT.intro [some (.ref a), some (.int p1)] pn_RX6 rfl (Nat.le_of_ble_eq_true rfl) ?_
  intro p e s m args below meth c C hz hu
  have hs : s.heap.size = n0 ∧ slT s.heap = u0 := ⟨hz, hu⟩
  refine a_world (V1 := MW h0 n0 u0 a σ) (MW.start hV) ?_
  unfold wp_X6_whyNotSteep at hw
  refine a_aload_0 (pc := 0) C dX6_whyNotSteep_0 ?_
  refine a_aload_0 (pc := 1) C dX6_whyNotSteep_1 ?_
  refine a_iload_1 (pc := 2) C dX6_whyNotSteep_2 ?_
  refine m_callV1i (pc := 3) C hs (fun h n u hV => ct_X6_isLot l G a _ _ _ hw h n u hV) (by decide) (by decide) rfl (lw_V q1836 q1838 qs33 q77 q1839) sg_X6_isLot (Nat.le_of_ble_eq_true rfl) dX6_whyNotSteep_3 (fun v2 σ1 hw => ?_)
  refine a_iconst (pc := 6) C dX6_whyNotSteep_6 ic_1 ?_
  refine m_callV2i (pc := 7) C hs (fun h n u hV => ct_X6_goes l G a _ _ _ _ hw h n u hV) (by decide) (by decide) rfl (lw_V q1794 q1796 qs29 q77 q1797) sg_X6_goes (Nat.le_of_ble_eq_true rfl) dX6_whyNotSteep_7 (fun v4 σ3 hw => ?_)
  refine a_if_eq (pc := 10) C 21 dX6_whyNotSteep_10 (by decide) (fun c5 => ?_) (fun c5 => ?_)
  · have hw := hw.1 c5
    refine a_iconst (pc := 21) C dX6_whyNotSteep_21 ic_0 ?_
    exact a_iret C dX6_whyNotSteep_22 (fun h n u hV => ⟨⟨(_, _), rfl, hw, hV⟩, m_end hs hV⟩)
  · have hw := hw.2 c5
    refine a_aload_0 (pc := 13) C dX6_whyNotSteep_13 ?_
    refine a_iload_1 (pc := 14) C dX6_whyNotSteep_14 ?_
    refine m_callV1i (pc := 15) C hs (fun h n u hV => ct_X6_noSteep l G a _ _ _ hw h n u hV) (by decide) (by decide) rfl (lw_V q1840 q1842 qs34 q77 q1843) sg_X6_noSteep (Nat.le_of_ble_eq_true rfl) dX6_whyNotSteep_15 (fun v7 σ6 hw => ?_)
    refine a_goto (pc := 18) C 22 dX6_whyNotSteep_18 (by decide) ?_
    exact a_iret C dX6_whyNotSteep_22 (fun h n u hV => ⟨⟨(_, _), rfl, hw, hV⟩, m_end hs hV⟩)
def wp_X6_whyNotDrum (p1 : Int32) (p2 : Int32) (σ : MS) (Q : Int32 → MS → Prop) : Prop := (wp_X6_isLot p1 σ (fun v2 σ1 => (jn (fun (x5 : Int32) => (wp_X6_goes x5 1 σ1 (fun v7 σ6 => (((v7 = 0) → (Q 0 σ6)) ∧ ((¬ v7 = 0) → (wp_X6_noDrum p1 p2 σ6 (fun v10 σ9 => (Q v10 σ9)))))))) (fun kj4 => (((v2 = 0) → (kj4 0)) ∧ ((¬ v2 = 0) → (wp_X6_isDrum p2 (fun v11 => (((v11 = 0) → (kj4 0)) ∧ ((¬ v11 = 0) → (kj4 1)))))))))))
theorem sg_X6_whyNotDrum : aSig yX6_whyNotDrum 2 := by decide +kernel
set_option maxHeartbeats 4000000 in
theorem ct_X6_whyNotDrum (l : Launch) (G : aG) (a : Nat) (p1 : Int32) (p2 : Int32)  (σ : MS) (Q : Int32 → MS → Prop) (hw : wp_X6_whyNotDrum p1 p2 σ Q) (h0 : AH) (n0 u0 : Nat) (hV : MV h0 a σ) : CT l yX6_whyNotDrum (ws_ yX6_whyNotDrum cX6_whyNotDrum 3 (some .int)) 4 G [.ref a, .int p1, .int p2] h0 n0 u0 0 0 (m_pi Q h0 n0 u0 a) := by
  refine CT.intro [some (.ref a), some (.int p1), some (.int p2)] pn_RX6 rfl (Nat.le_of_ble_eq_true rfl) ?_
  intro p e s m args below meth c C hz hu
  have hs : s.heap.size = n0 ∧ slT s.heap = u0 := ⟨hz, hu⟩
  refine a_world (V1 := MW h0 n0 u0 a σ) (MW.start hV) ?_
  unfold wp_X6_whyNotDrum at hw
  refine a_aload_0 (pc := 0) C dX6_whyNotDrum_0 ?_
  refine a_aload_0 (pc := 1) C dX6_whyNotDrum_1 ?_
  refine a_iload_1 (pc := 2) C dX6_whyNotDrum_2 ?_
  refine m_callV1i (pc := 3) C hs (fun h n u hV => ct_X6_isLot l G a _ _ _ hw h n u hV) (by decide) (by decide) rfl (lw_V q1836 q1838 qs33 q77 q1839) sg_X6_isLot (Nat.le_of_ble_eq_true rfl) dX6_whyNotDrum_3 (fun v2 σ1 hw => ?_)
  refine jn_use hw (fun kj4 ekj4 hw => ?_)
  have hkj4 : ∀ (x5 : Int32), kj4 x5 → AW G p l e (aRm 4 0 0) s m args below meth c (a_A h0 n0) 3 (MQ below (a_Qc G (m_pi Q h0 n0 u0 a) (a_A h0 n0)) args s 0 0 (a_A h0 n0)) (MW h0 n0 u0 a σ1) 21 [some (.ref a), some (.int p1), some (.int p2)] [.int x5, .ref a] := by
    intro x5 hw
    rw [ekj4] at hw
    refine a_iconst (pc := 21) C dX6_whyNotDrum_21 ic_1 ?_
    refine m_callV2i (pc := 22) C hs (fun h n u hV => ct_X6_goes l G a _ _ _ _ hw h n u hV) (by decide) (by decide) rfl (lw_V q1794 q1796 qs29 q77 q1797) sg_X6_goes (Nat.le_of_ble_eq_true rfl) dX6_whyNotDrum_22 (fun v7 σ6 hw => ?_)
    refine a_if_eq (pc := 25) C 37 dX6_whyNotDrum_25 (by decide) (fun c8 => ?_) (fun c8 => ?_)
    · have hw := hw.1 c8
      refine a_iconst (pc := 37) C dX6_whyNotDrum_37 ic_0 ?_
      exact a_iret C dX6_whyNotDrum_38 (fun h n u hV => ⟨⟨(_, _), rfl, hw, hV⟩, m_end hs hV⟩)
    · have hw := hw.2 c8
      refine a_aload_0 (pc := 28) C dX6_whyNotDrum_28 ?_
      refine a_iload_1 (pc := 29) C dX6_whyNotDrum_29 ?_
      refine a_iload_2 (pc := 30) C dX6_whyNotDrum_30 ?_
      refine m_callV2i (pc := 31) C hs (fun h n u hV => ct_X6_noDrum l G a _ _ _ _ hw h n u hV) (by decide) (by decide) rfl (lw_V q1874 q1876 qs40 q77 q1877) sg_X6_noDrum (Nat.le_of_ble_eq_true rfl) dX6_whyNotDrum_31 (fun v10 σ9 hw => ?_)
      refine a_goto (pc := 34) C 38 dX6_whyNotDrum_34 (by decide) ?_
      exact a_iret C dX6_whyNotDrum_38 (fun h n u hV => ⟨⟨(_, _), rfl, hw, hV⟩, m_end hs hV⟩)
  refine a_if_eq (pc := 6) C 20 dX6_whyNotDrum_6 (by decide) (fun c3 => ?_) (fun c3 => ?_)
  · have hw := hw.1 c3
    refine a_iconst (pc := 20) C dX6_whyNotDrum_20 ic_0 ?_
    exact hkj4 _ hw
  · have hw := hw.2 c3
    refine a_iload_2 (pc := 9) C dX6_whyNotDrum_9 ?_
    refine m_callS1p (pc := 10) C hs (fun h n u => ct_X6_isDrum l G _ _ hw h n u) (by decide) (by decide) (lw_S q1871 q1872 q77 q1873) sg_X6_isDrum (Nat.le_of_ble_eq_true rfl) dX6_whyNotDrum_10 (fun v11 hw => ?_)
    refine a_if_eq (pc := 13) C 20 dX6_whyNotDrum_13 (by decide) (fun c12 => ?_) (fun c12 => ?_)
    · have hw := hw.1 c12
      refine a_iconst (pc := 20) C dX6_whyNotDrum_20 ic_0 ?_
      exact hkj4 _ hw
    · have hw := hw.2 c12
      refine a_iconst (pc := 16) C dX6_whyNotDrum_16 ic_1 ?_
      refine a_goto (pc := 17) C 21 dX6_whyNotDrum_17 (by decide) ?_
      exact hkj4 _ hw
def wp_X6_whyNotLoad (p1 : Int32) (σ : MS) (Q : Int32 → MS → Prop) : Prop := (wp_X6_isLot p1 σ (fun v2 σ1 => (wp_X6_goes v2 1 σ1 (fun v4 σ3 => (((v4 = 0) → (Q 0 σ3)) ∧ ((¬ v4 = 0) → (wp_X6_noLoad p1 σ3 (fun v7 σ6 => (Q v7 σ6)))))))))
theorem sg_X6_whyNotLoad : aSig yX6_whyNotLoad 1 := by decide +kernel
set_option maxHeartbeats 4000000 in
theorem ct_X6_whyNotLoad (l : Launch) (G : aG) (a : Nat) (p1 : Int32)  (σ : MS) (Q : Int32 → MS → Prop) (hw : wp_X6_whyNotLoad p1 σ Q) (h0 : AH) (n0 u0 : Nat) (hV : MV h0 a σ) : CT l yX6_whyNotLoad (ws_ yX6_whyNotLoad cX6_whyNotLoad 2 (some .int)) 5 G [.ref a, .int p1] h0 n0 u0 0 0 (m_pi Q h0 n0 u0 a) := by
  refine CT.intro [some (.ref a), some (.int p1)] pn_RX6 rfl (Nat.le_of_ble_eq_true rfl) ?_
  intro p e s m args below meth c C hz hu
  have hs : s.heap.size = n0 ∧ slT s.heap = u0 := ⟨hz, hu⟩
  refine a_world (V1 := MW h0 n0 u0 a σ) (MW.start hV) ?_
  unfold wp_X6_whyNotLoad at hw
  refine a_aload_0 (pc := 0) C dX6_whyNotLoad_0 ?_
  refine a_aload_0 (pc := 1) C dX6_whyNotLoad_1 ?_
  refine a_iload_1 (pc := 2) C dX6_whyNotLoad_2 ?_
  refine m_callV1i (pc := 3) C hs (fun h n u hV => ct_X6_isLot l G a _ _ _ hw h n u hV) (by decide) (by decide) rfl (lw_V q1836 q1838 qs33 q77 q1839) sg_X6_isLot (Nat.le_of_ble_eq_true rfl) dX6_whyNotLoad_3 (fun v2 σ1 hw => ?_)
  refine a_iconst (pc := 6) C dX6_whyNotLoad_6 ic_1 ?_
  refine m_callV2i (pc := 7) C hs (fun h n u hV => ct_X6_goes l G a _ _ _ _ hw h n u hV) (by decide) (by decide) rfl (lw_V q1794 q1796 qs29 q77 q1797) sg_X6_goes (Nat.le_of_ble_eq_true rfl) dX6_whyNotLoad_7 (fun v4 σ3 hw => ?_)
  refine a_if_eq (pc := 10) C 21 dX6_whyNotLoad_10 (by decide) (fun c5 => ?_) (fun c5 => ?_)
  · have hw := hw.1 c5
    refine a_iconst (pc := 21) C dX6_whyNotLoad_21 ic_0 ?_
    exact a_iret C dX6_whyNotLoad_22 (fun h n u hV => ⟨⟨(_, _), rfl, hw, hV⟩, m_end hs hV⟩)
  · have hw := hw.2 c5
    refine a_aload_0 (pc := 13) C dX6_whyNotLoad_13 ?_
    refine a_iload_1 (pc := 14) C dX6_whyNotLoad_14 ?_
    refine m_callV1i (pc := 15) C hs (fun h n u hV => ct_X6_noLoad l G a _ _ _ hw h n u hV) (by decide) (by decide) rfl (lw_V q1898 q1900 qs44 q77 q1901) sg_X6_noLoad (Nat.le_of_ble_eq_true rfl) dX6_whyNotLoad_15 (fun v7 σ6 hw => ?_)
    refine a_goto (pc := 18) C 22 dX6_whyNotLoad_18 (by decide) ?_
    exact a_iret C dX6_whyNotLoad_22 (fun h n u hV => ⟨⟨(_, _), rfl, hw, hV⟩, m_end hs hV⟩)
def wp_X6_whyNotSpray (p1 : Int32) (σ : MS) (Q : Int32 → MS → Prop) : Prop := (wp_X6_isLot p1 σ (fun v2 σ1 => (wp_X6_goes v2 1 σ1 (fun v4 σ3 => (((v4 = 0) → (Q 0 σ3)) ∧ ((¬ v4 = 0) → (wp_X6_noSpray p1 σ3 (fun v7 σ6 => (Q v7 σ6)))))))))
theorem sg_X6_whyNotSpray : aSig yX6_whyNotSpray 1 := by decide +kernel
set_option maxHeartbeats 4000000 in
theorem ct_X6_whyNotSpray (l : Launch) (G : aG) (a : Nat) (p1 : Int32)  (σ : MS) (Q : Int32 → MS → Prop) (hw : wp_X6_whyNotSpray p1 σ Q) (h0 : AH) (n0 u0 : Nat) (hV : MV h0 a σ) : CT l yX6_whyNotSpray (ws_ yX6_whyNotSpray cX6_whyNotSpray 2 (some .int)) 4 G [.ref a, .int p1] h0 n0 u0 0 0 (m_pi Q h0 n0 u0 a) := by
  refine CT.intro [some (.ref a), some (.int p1)] pn_RX6 rfl (Nat.le_of_ble_eq_true rfl) ?_
  intro p e s m args below meth c C hz hu
  have hs : s.heap.size = n0 ∧ slT s.heap = u0 := ⟨hz, hu⟩
  refine a_world (V1 := MW h0 n0 u0 a σ) (MW.start hV) ?_
  unfold wp_X6_whyNotSpray at hw
  refine a_aload_0 (pc := 0) C dX6_whyNotSpray_0 ?_
  refine a_aload_0 (pc := 1) C dX6_whyNotSpray_1 ?_
  refine a_iload_1 (pc := 2) C dX6_whyNotSpray_2 ?_
  refine m_callV1i (pc := 3) C hs (fun h n u hV => ct_X6_isLot l G a _ _ _ hw h n u hV) (by decide) (by decide) rfl (lw_V q1836 q1838 qs33 q77 q1839) sg_X6_isLot (Nat.le_of_ble_eq_true rfl) dX6_whyNotSpray_3 (fun v2 σ1 hw => ?_)
  refine a_iconst (pc := 6) C dX6_whyNotSpray_6 ic_1 ?_
  refine m_callV2i (pc := 7) C hs (fun h n u hV => ct_X6_goes l G a _ _ _ _ hw h n u hV) (by decide) (by decide) rfl (lw_V q1794 q1796 qs29 q77 q1797) sg_X6_goes (Nat.le_of_ble_eq_true rfl) dX6_whyNotSpray_7 (fun v4 σ3 hw => ?_)
  refine a_if_eq (pc := 10) C 21 dX6_whyNotSpray_10 (by decide) (fun c5 => ?_) (fun c5 => ?_)
  · have hw := hw.1 c5
    refine a_iconst (pc := 21) C dX6_whyNotSpray_21 ic_0 ?_
    exact a_iret C dX6_whyNotSpray_22 (fun h n u hV => ⟨⟨(_, _), rfl, hw, hV⟩, m_end hs hV⟩)
  · have hw := hw.2 c5
    refine a_aload_0 (pc := 13) C dX6_whyNotSpray_13 ?_
    refine a_iload_1 (pc := 14) C dX6_whyNotSpray_14 ?_
    refine m_callV1i (pc := 15) C hs (fun h n u hV => ct_X6_noSpray l G a _ _ _ hw h n u hV) (by decide) (by decide) rfl (lw_V q1922 q1924 qs48 q77 q1925) sg_X6_noSpray (Nat.le_of_ble_eq_true rfl) dX6_whyNotSpray_15 (fun v7 σ6 hw => ?_)
    refine a_goto (pc := 18) C 22 dX6_whyNotSpray_18 (by decide) ?_
    exact a_iret C dX6_whyNotSpray_22 (fun h n u hV => ⟨⟨(_, _), rfl, hw, hV⟩, m_end hs hV⟩)
def wp_X6_hoursToGrow_L48 (kx13 : Int32 → MS → Prop) (p1 : Int32) (p2 : Int32) : Nat → Int32 → MS → Prop
  | 0, _, _ => False
  | F + 1, x11, σ12 => (((240 ≤ x11) → (kx13 x11 σ12)) ∧ ((¬ 240 ≤ x11) → (wp_X6_of p1 5 σ12 (fun v28 σ27 => (((p2 ≤ v28) → (kx13 x11 σ27)) ∧ ((¬ p2 ≤ v28) → (wp_X6_isGrowing p1 σ27 (fun v31 σ30 => (((v31 = 0) → (kx13 x11 σ30)) ∧ ((¬ v31 = 0) → (wp_X6_hour σ30 (fun v34 σ33 => (wp_X6_hoursToGrow_L48 kx13 p1 p2 F (x11 + 1) σ33)))))))))))))
def wp_X6_hoursToGrow (p1 : Int32) (p2 : Int32) (σ : MS) (Q : Int32 → MS → Prop) : Prop := (wp_X6_isLot p1 σ (fun v2 σ1 => (wp_X6_in p2 0 100 (fun v3 => (wp_X6_goes v2 v3 σ1 (fun v5 σ4 => (((¬ v5 = 0) → (wp_X6_of p1 5 σ4 (fun v8 σ7 => (((v8 < p2) → (wp_X6_copyState 0 0 1 0 σ7 (fun σ10 => (jn (fun (x14 : Int32) (σ15 : MS) => (wp_X6_of p1 5 σ15 (fun v17 σ16 => (jn (fun (x20 : Int32) (σ21 : MS) => (wp_X6_copyState 1 0 0 0 σ21 (fun σ22 => (Q x20 σ22)))) (fun kj19 => (((v17 < p2) → (kj19 ((-1)) σ16)) ∧ ((¬ v17 < p2) → (wp_X6_of p1 0 σ16 (fun v24 σ23 => (((v24 = 6) → (kj19 ((-1)) σ23)) ∧ ((¬ v24 = 6) → (kj19 x14 σ23)))))))))))) (fun kx13 => wp_X6_hoursToGrow_L48 kx13 p1 p2 mF 0 σ10))))) ∧ ((¬ v8 < p2) → (Q 0 σ7)))))) ∧ ((v5 = 0) → (Q 0 σ4)))))))))
theorem sg_X6_hoursToGrow : aSig yX6_hoursToGrow 2 := by decide +kernel
set_option maxHeartbeats 4000000 in
theorem ct_X6_hoursToGrow (l : Launch) (G : aG) (a : Nat) (p1 : Int32) (p2 : Int32)  (σ : MS) (Q : Int32 → MS → Prop) (hw : wp_X6_hoursToGrow p1 p2 σ Q) (h0 : AH) (n0 u0 : Nat) (hV : MV h0 a σ) : CT l yX6_hoursToGrow (ws_ yX6_hoursToGrow cX6_hoursToGrow 5 (some .int)) 5 G [.ref a, .int p1, .int p2] h0 n0 u0 0 0 (m_pi Q h0 n0 u0 a) := by
  refine CT.intro [some (.ref a), some (.int p1), some (.int p2), none, none] pn_RX6 rfl (Nat.le_of_ble_eq_true rfl) ?_
  intro p e s m args below meth c C hz hu
  have hs : s.heap.size = n0 ∧ slT s.heap = u0 := ⟨hz, hu⟩
  refine a_world (V1 := MW h0 n0 u0 a σ) (MW.start hV) ?_
  unfold wp_X6_hoursToGrow at hw
  refine a_aload_0 (pc := 0) C dX6_hoursToGrow_0 ?_
  refine a_aload_0 (pc := 1) C dX6_hoursToGrow_1 ?_
  refine a_iload_1 (pc := 2) C dX6_hoursToGrow_2 ?_
  refine m_callV1i (pc := 3) C hs (fun h n u hV => ct_X6_isLot l G a _ _ _ hw h n u hV) (by decide) (by decide) rfl (lw_V q1836 q1838 qs33 q77 q1839) sg_X6_isLot (Nat.le_of_ble_eq_true rfl) dX6_hoursToGrow_3 (fun v2 σ1 hw => ?_)
  refine a_iload_2 (pc := 6) C dX6_hoursToGrow_6 ?_
  refine a_iconst (pc := 7) C dX6_hoursToGrow_7 ic_0 ?_
  refine a_bipush (pc := 8) C dX6_hoursToGrow_8 bc_100 ?_
  refine m_callS3p (pc := 10) C hs (fun h n u => ct_X6_in l G _ _ _ _ hw h n u) (by decide) (by decide) (lw_S q1821 q1822 q77 q1823) sg_X6_in (Nat.le_of_ble_eq_true rfl) dX6_hoursToGrow_10 (fun v3 hw => ?_)
  refine m_callV2i (pc := 13) C hs (fun h n u hV => ct_X6_goes l G a _ _ _ _ hw h n u hV) (by decide) (by decide) rfl (lw_V q1794 q1796 qs29 q77 q1797) sg_X6_goes (Nat.le_of_ble_eq_true rfl) dX6_hoursToGrow_13 (fun v5 σ4 hw => ?_)
  refine a_if_ne (pc := 16) C 21 dX6_hoursToGrow_16 (by decide) (fun c6 => ?_) (fun c6 => ?_)
  · have hw := hw.1 c6
    refine a_aload_0 (pc := 21) C dX6_hoursToGrow_21 ?_
    refine a_iload_1 (pc := 22) C dX6_hoursToGrow_22 ?_
    refine a_iconst (pc := 23) C dX6_hoursToGrow_23 ic_5 ?_
    refine m_callV2i (pc := 24) C hs (fun h n u hV => ct_X6_of l G a _ _ _ _ hw h n u hV) (by decide) (by decide) rfl (lw_V q1844 q1846 qs35 q77 q1847) sg_X6_of (Nat.le_of_ble_eq_true rfl) dX6_hoursToGrow_24 (fun v8 σ7 hw => ?_)
    refine a_iload_2 (pc := 27) C dX6_hoursToGrow_27 ?_
    refine a_icmp_lt (pc := 28) C 33 dX6_hoursToGrow_28 (by decide) (fun c9 => ?_) (fun c9 => ?_)
    · have hw := hw.1 c9
      refine a_aload_0 (pc := 33) C dX6_hoursToGrow_33 ?_
      refine m_get_z (pc := 34) C q1758 dX6_hoursToGrow_34 ?_
      refine a_iconst (pc := 37) C dX6_hoursToGrow_37 ic_0 ?_
      refine a_aload_0 (pc := 38) C dX6_hoursToGrow_38 ?_
      refine m_get_spare (pc := 39) C q1759 dX6_hoursToGrow_39 ?_
      refine a_iconst (pc := 42) C dX6_hoursToGrow_42 ic_0 ?_
      refine m_callS4w (pc := 43) C hs (fun h n u hV => ct_X6_copyState l G a _ _ _ _ (by decide) (by decide) _ _ hw h n u hV) (by decide) (by decide) (lw_S q1798 q1799 q77 q1800) sg_X6_copyState (Nat.le_of_ble_eq_true rfl) dX6_hoursToGrow_43 (fun σ10 hw => ?_)
      refine a_iconst (pc := 46) C dX6_hoursToGrow_46 ic_0 ?_
      refine a_istore_3 (pc := 47) C dX6_hoursToGrow_47 (by decide) rfl ?_
      refine jn_use hw (fun kx13 ekx13 hw => ?_)
      have hkx13 : ∀ (x14 : Int32) (σ15 : MS), kx13 x14 σ15 → AW G p l e (aRm 5 0 0) s m args below meth c (a_A h0 n0) 5 (MQ below (a_Qc G (m_pi Q h0 n0 u0 a) (a_A h0 n0)) args s 0 0 (a_A h0 n0)) (MW h0 n0 u0 a σ15) 85 [some (.ref a), some (.int p1), some (.int p2), some (.int x14), none] [] := by
        intro x14 σ15 hw
        rw [ekx13] at hw
        refine a_aload_0 (pc := 85) C dX6_hoursToGrow_85 ?_
        refine a_iload_1 (pc := 86) C dX6_hoursToGrow_86 ?_
        refine a_iconst (pc := 87) C dX6_hoursToGrow_87 ic_5 ?_
        refine m_callV2i (pc := 88) C hs (fun h n u hV => ct_X6_of l G a _ _ _ _ hw h n u hV) (by decide) (by decide) rfl (lw_V q1844 q1846 qs35 q77 q1847) sg_X6_of (Nat.le_of_ble_eq_true rfl) dX6_hoursToGrow_88 (fun v17 σ16 hw => ?_)
        refine a_iload_2 (pc := 91) C dX6_hoursToGrow_91 ?_
        refine jn_use hw (fun kj19 ekj19 hw => ?_)
        have hkj19 : ∀ (x20 : Int32) (σ21 : MS), kj19 x20 σ21 → AW G p l e (aRm 5 0 0) s m args below meth c (a_A h0 n0) 5 (MQ below (a_Qc G (m_pi Q h0 n0 u0 a) (a_A h0 n0)) args s 0 0 (a_A h0 n0)) (MW h0 n0 u0 a σ21) 111 [some (.ref a), some (.int p1), some (.int p2), some (.int x14), none] [.int x20] := by
          intro x20 σ21 hw
          rw [ekj19] at hw
          refine a_istore_4 (pc := 111) C dX6_hoursToGrow_111 (by decide) rfl ?_
          refine a_aload_0 (pc := 113) C dX6_hoursToGrow_113 ?_
          refine m_get_spare (pc := 114) C q1759 dX6_hoursToGrow_114 ?_
          refine a_iconst (pc := 117) C dX6_hoursToGrow_117 ic_0 ?_
          refine a_aload_0 (pc := 118) C dX6_hoursToGrow_118 ?_
          refine m_get_z (pc := 119) C q1758 dX6_hoursToGrow_119 ?_
          refine a_iconst (pc := 122) C dX6_hoursToGrow_122 ic_0 ?_
          refine m_callS4w (pc := 123) C hs (fun h n u hV => ct_X6_copyState l G a _ _ _ _ (by decide) (by decide) _ _ hw h n u hV) (by decide) (by decide) (lw_S q1798 q1799 q77 q1800) sg_X6_copyState (Nat.le_of_ble_eq_true rfl) dX6_hoursToGrow_123 (fun σ22 hw => ?_)
          refine a_iload_4 (pc := 126) C dX6_hoursToGrow_126 ?_
          exact a_iret C dX6_hoursToGrow_128 (fun h n u hV => ⟨⟨(_, _), rfl, hw, hV⟩, m_end hs hV⟩)
        refine a_icmp_lt (pc := 92) C 110 dX6_hoursToGrow_92 (by decide) (fun c18 => ?_) (fun c18 => ?_)
        · have hw := hw.1 c18
          refine a_iconst (pc := 110) C dX6_hoursToGrow_110 ic_m1 ?_
          exact hkj19 _ _ hw
        · have hw := hw.2 c18
          refine a_aload_0 (pc := 95) C dX6_hoursToGrow_95 ?_
          refine a_iload_1 (pc := 96) C dX6_hoursToGrow_96 ?_
          refine a_iconst (pc := 97) C dX6_hoursToGrow_97 ic_0 ?_
          refine m_callV2i (pc := 98) C hs (fun h n u hV => ct_X6_of l G a _ _ _ _ hw h n u hV) (by decide) (by decide) rfl (lw_V q1844 q1846 qs35 q77 q1847) sg_X6_of (Nat.le_of_ble_eq_true rfl) dX6_hoursToGrow_98 (fun v24 σ23 hw => ?_)
          refine a_bipush (pc := 101) C dX6_hoursToGrow_101 bc_6 ?_
          refine a_icmp_eq (pc := 103) C 110 dX6_hoursToGrow_103 (by decide) (fun c25 => ?_) (fun c25 => ?_)
          · have hw := hw.1 c25
            refine a_iconst (pc := 110) C dX6_hoursToGrow_110 ic_m1 ?_
            exact hkj19 _ _ hw
          · have hw := hw.2 c25
            refine a_iload_3 (pc := 106) C dX6_hoursToGrow_106 ?_
            refine a_goto (pc := 107) C 111 dX6_hoursToGrow_107 (by decide) ?_
            exact hkj19 _ _ hw
      have lp48 : ∀ (F : Nat) (x11 : Int32) (σ12 : MS), wp_X6_hoursToGrow_L48 kx13 p1 p2 F x11 σ12 → AW G p l e (aRm 5 0 0) s m args below meth c (a_A h0 n0) 5 (MQ below (a_Qc G (m_pi Q h0 n0 u0 a) (a_A h0 n0)) args s 0 0 (a_A h0 n0)) (MW h0 n0 u0 a σ12) 48 [some (.ref a), some (.int p1), some (.int p2), some (.int x11), none] [] := by
        intro F
        induction F with
        | zero => intro x11 σ12 hw; exact False.elim hw
        | succ F ih =>
          intro x11 σ12 hw
          rw [wp_X6_hoursToGrow_L48] at hw
          refine a_iload_3 (pc := 48) C dX6_hoursToGrow_48 ?_
          refine a_sipush (pc := 49) C dX6_hoursToGrow_49 sc_240 ?_
          refine a_icmp_ge (pc := 52) C 85 dX6_hoursToGrow_52 (by decide) (fun c26 => ?_) (fun c26 => ?_)
          · have hw := hw.1 c26
            exact hkx13 _ _ hw
          · have hw := hw.2 c26
            refine a_aload_0 (pc := 55) C dX6_hoursToGrow_55 ?_
            refine a_iload_1 (pc := 56) C dX6_hoursToGrow_56 ?_
            refine a_iconst (pc := 57) C dX6_hoursToGrow_57 ic_5 ?_
            refine m_callV2i (pc := 58) C hs (fun h n u hV => ct_X6_of l G a _ _ _ _ hw h n u hV) (by decide) (by decide) rfl (lw_V q1844 q1846 qs35 q77 q1847) sg_X6_of (Nat.le_of_ble_eq_true rfl) dX6_hoursToGrow_58 (fun v28 σ27 hw => ?_)
            refine a_iload_2 (pc := 61) C dX6_hoursToGrow_61 ?_
            refine a_icmp_ge (pc := 62) C 85 dX6_hoursToGrow_62 (by decide) (fun c29 => ?_) (fun c29 => ?_)
            · have hw := hw.1 c29
              exact hkx13 _ _ hw
            · have hw := hw.2 c29
              refine a_aload_0 (pc := 65) C dX6_hoursToGrow_65 ?_
              refine a_iload_1 (pc := 66) C dX6_hoursToGrow_66 ?_
              refine m_callV1i (pc := 67) C hs (fun h n u hV => ct_X6_isGrowing l G a _ _ _ hw h n u hV) (by decide) (by decide) rfl (lw_V q1878 q1880 qs41 q77 q1881) sg_X6_isGrowing (Nat.le_of_ble_eq_true rfl) dX6_hoursToGrow_67 (fun v31 σ30 hw => ?_)
              refine a_if_eq (pc := 70) C 85 dX6_hoursToGrow_70 (by decide) (fun c32 => ?_) (fun c32 => ?_)
              · have hw := hw.1 c32
                exact hkx13 _ _ hw
              · have hw := hw.2 c32
                refine a_aload_0 (pc := 73) C dX6_hoursToGrow_73 ?_
                refine m_callV0i (pc := 74) C hs (fun h n u hV => ct_X6_hour l G a  _ _ hw h n u hV) (by decide) (by decide) rfl (lw_V q1969 q1971 qs53 q77 q1972) sg_X6_hour (Nat.le_of_ble_eq_true rfl) dX6_hoursToGrow_74 (fun v34 σ33 hw => ?_)
                refine a_istore_4 (pc := 77) C dX6_hoursToGrow_77 (by decide) rfl ?_
                refine a_iinc_3 (pc := 79) (v := 1) C dX6_hoursToGrow_79 (by decide) (by decide) rfl ?_
                refine a_goto (pc := 82) C 48 dX6_hoursToGrow_82 (by decide) ?_
                exact a_weak (a_le_some (a_le_some (a_le_some (a_le_some (a_le_none a_le_nil))))) (ih _ _ hw)
      exact lp48 mF _ _ hw
    · have hw := hw.2 c9
      refine a_iconst (pc := 31) C dX6_hoursToGrow_31 ic_0 ?_
      exact a_iret C dX6_hoursToGrow_32 (fun h n u hV => ⟨⟨(_, _), rfl, hw, hV⟩, m_end hs hV⟩)
  · have hw := hw.2 c6
    refine a_iconst (pc := 19) C dX6_hoursToGrow_19 ic_0 ?_
    exact a_iret C dX6_hoursToGrow_20 (fun h n u hV => ⟨⟨(_, _), rfl, hw, hV⟩, m_end hs hV⟩)
def wp_X6_hoursToSpoil_L30 (kx9 : Int32 → MS → Prop) (p1 : Int32) : Nat → Int32 → MS → Prop
  | 0, _, _ => False
  | F + 1, x7, σ8 => (((240 ≤ x7) → (kx9 x7 σ8)) ∧ ((¬ 240 ≤ x7) → (wp_X6_isGrowing p1 σ8 (fun v20 σ19 => (((v20 = 0) → (kx9 x7 σ19)) ∧ ((¬ v20 = 0) → (wp_X6_hour σ19 (fun v23 σ22 => (wp_X6_hoursToSpoil_L30 kx9 p1 F (x7 + 1) σ22)))))))))
def wp_X6_hoursToSpoil (p1 : Int32) (σ : MS) (Q : Int32 → MS → Prop) : Prop := (wp_X6_isLot p1 σ (fun v2 σ1 => (wp_X6_goes v2 1 σ1 (fun v4 σ3 => (((¬ v4 = 0) → (wp_X6_copyState 0 0 1 0 σ3 (fun σ6 => (jn (fun (x10 : Int32) (σ11 : MS) => (wp_X6_of p1 0 σ11 (fun v13 σ12 => (jn (fun (x16 : Int32) => (wp_X6_copyState 1 0 0 0 σ12 (fun σ17 => (Q x16 σ17)))) (fun kj15 => (((¬ v13 = 6) → (kj15 ((-1)))) ∧ ((v13 = 6) → (kj15 x10)))))))) (fun kx9 => wp_X6_hoursToSpoil_L30 kx9 p1 mF 0 σ6))))) ∧ ((v4 = 0) → (Q 0 σ3)))))))
theorem sg_X6_hoursToSpoil : aSig yX6_hoursToSpoil 1 := by decide +kernel
set_option maxHeartbeats 4000000 in
theorem ct_X6_hoursToSpoil (l : Launch) (G : aG) (a : Nat) (p1 : Int32)  (σ : MS) (Q : Int32 → MS → Prop) (hw : wp_X6_hoursToSpoil p1 σ Q) (h0 : AH) (n0 u0 : Nat) (hV : MV h0 a σ) : CT l yX6_hoursToSpoil (ws_ yX6_hoursToSpoil cX6_hoursToSpoil 4 (some .int)) 5 G [.ref a, .int p1] h0 n0 u0 0 0 (m_pi Q h0 n0 u0 a) := by
  refine CT.intro [some (.ref a), some (.int p1), none, none] pn_RX6 rfl (Nat.le_of_ble_eq_true rfl) ?_
  intro p e s m args below meth c C hz hu
  have hs : s.heap.size = n0 ∧ slT s.heap = u0 := ⟨hz, hu⟩
  refine a_world (V1 := MW h0 n0 u0 a σ) (MW.start hV) ?_
  unfold wp_X6_hoursToSpoil at hw
  refine a_aload_0 (pc := 0) C dX6_hoursToSpoil_0 ?_
  refine a_aload_0 (pc := 1) C dX6_hoursToSpoil_1 ?_
  refine a_iload_1 (pc := 2) C dX6_hoursToSpoil_2 ?_
  refine m_callV1i (pc := 3) C hs (fun h n u hV => ct_X6_isLot l G a _ _ _ hw h n u hV) (by decide) (by decide) rfl (lw_V q1836 q1838 qs33 q77 q1839) sg_X6_isLot (Nat.le_of_ble_eq_true rfl) dX6_hoursToSpoil_3 (fun v2 σ1 hw => ?_)
  refine a_iconst (pc := 6) C dX6_hoursToSpoil_6 ic_1 ?_
  refine m_callV2i (pc := 7) C hs (fun h n u hV => ct_X6_goes l G a _ _ _ _ hw h n u hV) (by decide) (by decide) rfl (lw_V q1794 q1796 qs29 q77 q1797) sg_X6_goes (Nat.le_of_ble_eq_true rfl) dX6_hoursToSpoil_7 (fun v4 σ3 hw => ?_)
  refine a_if_ne (pc := 10) C 15 dX6_hoursToSpoil_10 (by decide) (fun c5 => ?_) (fun c5 => ?_)
  · have hw := hw.1 c5
    refine a_aload_0 (pc := 15) C dX6_hoursToSpoil_15 ?_
    refine m_get_z (pc := 16) C q1758 dX6_hoursToSpoil_16 ?_
    refine a_iconst (pc := 19) C dX6_hoursToSpoil_19 ic_0 ?_
    refine a_aload_0 (pc := 20) C dX6_hoursToSpoil_20 ?_
    refine m_get_spare (pc := 21) C q1759 dX6_hoursToSpoil_21 ?_
    refine a_iconst (pc := 24) C dX6_hoursToSpoil_24 ic_0 ?_
    refine m_callS4w (pc := 25) C hs (fun h n u hV => ct_X6_copyState l G a _ _ _ _ (by decide) (by decide) _ _ hw h n u hV) (by decide) (by decide) (lw_S q1798 q1799 q77 q1800) sg_X6_copyState (Nat.le_of_ble_eq_true rfl) dX6_hoursToSpoil_25 (fun σ6 hw => ?_)
    refine a_iconst (pc := 28) C dX6_hoursToSpoil_28 ic_0 ?_
    refine a_istore_2 (pc := 29) C dX6_hoursToSpoil_29 (by decide) rfl ?_
    refine jn_use hw (fun kx9 ekx9 hw => ?_)
    have hkx9 : ∀ (x10 : Int32) (σ11 : MS), kx9 x10 σ11 → AW G p l e (aRm 5 0 0) s m args below meth c (a_A h0 n0) 4 (MQ below (a_Qc G (m_pi Q h0 n0 u0 a) (a_A h0 n0)) args s 0 0 (a_A h0 n0)) (MW h0 n0 u0 a σ11) 56 [some (.ref a), some (.int p1), some (.int x10), none] [] := by
      intro x10 σ11 hw
      rw [ekx9] at hw
      refine a_aload_0 (pc := 56) C dX6_hoursToSpoil_56 ?_
      refine a_iload_1 (pc := 57) C dX6_hoursToSpoil_57 ?_
      refine a_iconst (pc := 58) C dX6_hoursToSpoil_58 ic_0 ?_
      refine m_callV2i (pc := 59) C hs (fun h n u hV => ct_X6_of l G a _ _ _ _ hw h n u hV) (by decide) (by decide) rfl (lw_V q1844 q1846 qs35 q77 q1847) sg_X6_of (Nat.le_of_ble_eq_true rfl) dX6_hoursToSpoil_59 (fun v13 σ12 hw => ?_)
      refine a_bipush (pc := 62) C dX6_hoursToSpoil_62 bc_6 ?_
      refine jn_use hw (fun kj15 ekj15 hw => ?_)
      have hkj15 : ∀ (x16 : Int32), kj15 x16 → AW G p l e (aRm 5 0 0) s m args below meth c (a_A h0 n0) 4 (MQ below (a_Qc G (m_pi Q h0 n0 u0 a) (a_A h0 n0)) args s 0 0 (a_A h0 n0)) (MW h0 n0 u0 a σ12) 72 [some (.ref a), some (.int p1), some (.int x10), none] [.int x16] := by
        intro x16 hw
        rw [ekj15] at hw
        refine a_istore_3 (pc := 72) C dX6_hoursToSpoil_72 (by decide) rfl ?_
        refine a_aload_0 (pc := 73) C dX6_hoursToSpoil_73 ?_
        refine m_get_spare (pc := 74) C q1759 dX6_hoursToSpoil_74 ?_
        refine a_iconst (pc := 77) C dX6_hoursToSpoil_77 ic_0 ?_
        refine a_aload_0 (pc := 78) C dX6_hoursToSpoil_78 ?_
        refine m_get_z (pc := 79) C q1758 dX6_hoursToSpoil_79 ?_
        refine a_iconst (pc := 82) C dX6_hoursToSpoil_82 ic_0 ?_
        refine m_callS4w (pc := 83) C hs (fun h n u hV => ct_X6_copyState l G a _ _ _ _ (by decide) (by decide) _ _ hw h n u hV) (by decide) (by decide) (lw_S q1798 q1799 q77 q1800) sg_X6_copyState (Nat.le_of_ble_eq_true rfl) dX6_hoursToSpoil_83 (fun σ17 hw => ?_)
        refine a_iload_3 (pc := 86) C dX6_hoursToSpoil_86 ?_
        exact a_iret C dX6_hoursToSpoil_87 (fun h n u hV => ⟨⟨(_, _), rfl, hw, hV⟩, m_end hs hV⟩)
      refine a_icmp_ne (pc := 64) C 71 dX6_hoursToSpoil_64 (by decide) (fun c14 => ?_) (fun c14 => ?_)
      · have hw := hw.1 c14
        refine a_iconst (pc := 71) C dX6_hoursToSpoil_71 ic_m1 ?_
        exact hkj15 _ hw
      · have hw := hw.2 c14
        refine a_iload_2 (pc := 67) C dX6_hoursToSpoil_67 ?_
        refine a_goto (pc := 68) C 72 dX6_hoursToSpoil_68 (by decide) ?_
        exact hkj15 _ hw
    have lp30 : ∀ (F : Nat) (x7 : Int32) (σ8 : MS), wp_X6_hoursToSpoil_L30 kx9 p1 F x7 σ8 → AW G p l e (aRm 5 0 0) s m args below meth c (a_A h0 n0) 4 (MQ below (a_Qc G (m_pi Q h0 n0 u0 a) (a_A h0 n0)) args s 0 0 (a_A h0 n0)) (MW h0 n0 u0 a σ8) 30 [some (.ref a), some (.int p1), some (.int x7), none] [] := by
      intro F
      induction F with
      | zero => intro x7 σ8 hw; exact False.elim hw
      | succ F ih =>
        intro x7 σ8 hw
        rw [wp_X6_hoursToSpoil_L30] at hw
        refine a_iload_2 (pc := 30) C dX6_hoursToSpoil_30 ?_
        refine a_sipush (pc := 31) C dX6_hoursToSpoil_31 sc_240 ?_
        refine a_icmp_ge (pc := 34) C 56 dX6_hoursToSpoil_34 (by decide) (fun c18 => ?_) (fun c18 => ?_)
        · have hw := hw.1 c18
          exact hkx9 _ _ hw
        · have hw := hw.2 c18
          refine a_aload_0 (pc := 37) C dX6_hoursToSpoil_37 ?_
          refine a_iload_1 (pc := 38) C dX6_hoursToSpoil_38 ?_
          refine m_callV1i (pc := 39) C hs (fun h n u hV => ct_X6_isGrowing l G a _ _ _ hw h n u hV) (by decide) (by decide) rfl (lw_V q1878 q1880 qs41 q77 q1881) sg_X6_isGrowing (Nat.le_of_ble_eq_true rfl) dX6_hoursToSpoil_39 (fun v20 σ19 hw => ?_)
          refine a_if_eq (pc := 42) C 56 dX6_hoursToSpoil_42 (by decide) (fun c21 => ?_) (fun c21 => ?_)
          · have hw := hw.1 c21
            exact hkx9 _ _ hw
          · have hw := hw.2 c21
            refine a_aload_0 (pc := 45) C dX6_hoursToSpoil_45 ?_
            refine m_callV0i (pc := 46) C hs (fun h n u hV => ct_X6_hour l G a  _ _ hw h n u hV) (by decide) (by decide) rfl (lw_V q1969 q1971 qs53 q77 q1972) sg_X6_hour (Nat.le_of_ble_eq_true rfl) dX6_hoursToSpoil_46 (fun v23 σ22 hw => ?_)
            refine a_istore_3 (pc := 49) C dX6_hoursToSpoil_49 (by decide) rfl ?_
            refine a_iinc_2 (pc := 50) (v := 1) C dX6_hoursToSpoil_50 (by decide) (by decide) rfl ?_
            refine a_goto (pc := 53) C 30 dX6_hoursToSpoil_53 (by decide) ?_
            exact a_weak (a_le_some (a_le_some (a_le_some (a_le_none a_le_nil)))) (ih _ _ hw)
    exact lp30 mF _ _ hw
  · have hw := hw.2 c5
    refine a_iconst (pc := 13) C dX6_hoursToSpoil_13 ic_0 ?_
    exact a_iret C dX6_hoursToSpoil_14 (fun h n u hV => ⟨⟨(_, _), rfl, hw, hV⟩, m_end hs hV⟩)
def wp_X6_hoursToDry_L59 (kx13 : Int32 → Int32 → MS → Prop) : Nat → Int32 → Int32 → MS → Prop
  | 0, _, _, _ => False
  | F + 1, x10, x11, σ12 => (((x11 = 0) → (vp_in 2 (mLen 0) ∧ (wp_X6_kilnHeat ((σ12 0 (2 : Int32).toNatClampNeg) + (x11 + 1)) σ12 (fun v19 σ18 => (wp_X6_most 3 (x10 - (v19 / 20)) (fun v20 => (wp_X6_hoursToDry_L59 kx13 F v20 (x11 + 1) σ18))))))) ∧ ((¬ x11 = 0) → (((x10 ≤ 4) → (kx13 x10 x11 σ12)) ∧ ((¬ x10 ≤ 4) → (vp_in 2 (mLen 0) ∧ (wp_X6_kilnHeat ((σ12 0 (2 : Int32).toNatClampNeg) + (x11 + 1)) σ12 (fun v23 σ22 => (wp_X6_most 3 (x10 - (v23 / 20)) (fun v24 => (wp_X6_hoursToDry_L59 kx13 F v24 (x11 + 1) σ22))))))))))
def wp_X6_hoursToDry_L9 (kx5 : Int32 → Int32 → MS → Prop) : Nat → Int32 → Int32 → MS → Prop
  | 0, _, _, _ => False
  | F + 1, x2, x3, σ4 => (vp_in 7 (mLen 0) ∧ ((((σ4 0 (7 : Int32).toNatClampNeg) ≤ x3) → (kx5 x2 x3 σ4)) ∧ ((¬ (σ4 0 (7 : Int32).toNatClampNeg) ≤ x3) → (wp_X6_of x3 0 σ4 (fun v27 σ26 => (jn (fun (x30 : Int32) (σ31 : MS) => (wp_X6_hoursToDry_L9 kx5 F x30 (x3 + 1) σ31)) (fun kj29 => (((¬ v27 = 4) → (kj29 x2 σ26)) ∧ ((v27 = 4) → (wp_X6_of x3 4 σ26 (fun v33 σ32 => (wp_X6_most x2 v33 (fun v34 => (kj29 v34 σ32))))))))))))))
def wp_X6_hoursToDry (p1 : Int32) (σ : MS) (Q : Int32 → MS → Prop) : Prop := (∀ σ1 : MS, σ1 = mU σ 5 3 0 → (jn (fun (x6 : Int32) (x7 : Int32) (σ8 : MS) => (((¬ x6 = 0) → (jn (fun (x14 : Int32) (x15 : Int32) (σ16 : MS) => (Q x15 σ16)) (fun kx13 => wp_X6_hoursToDry_L59 kx13 mF x6 0 σ8))) ∧ ((x6 = 0) → (Q ((-1)) σ8)))) (fun kx5 => wp_X6_hoursToDry_L9 kx5 mF 0 0 σ1)))
theorem sg_X6_hoursToDry : aSig yX6_hoursToDry 1 := by decide +kernel
set_option maxHeartbeats 4000000 in
theorem ct_X6_hoursToDry (l : Launch) (G : aG) (a : Nat) (p1 : Int32)  (σ : MS) (Q : Int32 → MS → Prop) (hw : wp_X6_hoursToDry p1 σ Q) (h0 : AH) (n0 u0 : Nat) (hV : MV h0 a σ) : CT l yX6_hoursToDry (ws_ yX6_hoursToDry cX6_hoursToDry 4 (some .int)) 2 G [.ref a, .int p1] h0 n0 u0 0 0 (m_pi Q h0 n0 u0 a) := by
  refine CT.intro [some (.ref a), some (.int p1), none, none] pn_RX6 rfl (Nat.le_of_ble_eq_true rfl) ?_
  intro p e s m args below meth c C hz hu
  have hs : s.heap.size = n0 ∧ slT s.heap = u0 := ⟨hz, hu⟩
  refine a_world (V1 := MW h0 n0 u0 a σ) (MW.start hV) ?_
  unfold wp_X6_hoursToDry at hw
  refine a_aload_0 (pc := 0) C dX6_hoursToDry_0 ?_
  refine a_iconst (pc := 1) C dX6_hoursToDry_1 ic_0 ?_
  refine m_put_thrown (pc := 2) C q1766 dX6_hoursToDry_2 (fun σ1 eσ1 => ?_)
  have hw := hw σ1 eσ1
  refine a_iconst (pc := 5) C dX6_hoursToDry_5 ic_0 ?_
  refine a_istore_2 (pc := 6) C dX6_hoursToDry_6 (by decide) rfl ?_
  refine a_iconst (pc := 7) C dX6_hoursToDry_7 ic_0 ?_
  refine a_istore_3 (pc := 8) C dX6_hoursToDry_8 (by decide) rfl ?_
  refine jn_use hw (fun kx5 ekx5 hw => ?_)
  have hkx5 : ∀ (x6 : Int32) (x7 : Int32) (σ8 : MS), kx5 x6 x7 σ8 → AW G p l e (aRm 2 0 0) s m args below meth c (a_A h0 n0) 4 (MQ below (a_Qc G (m_pi Q h0 n0 u0 a) (a_A h0 n0)) args s 0 0 (a_A h0 n0)) (MW h0 n0 u0 a σ8) 51 [some (.ref a), some (.int p1), some (.int x6), some (.int x7)] [] := by
    intro x6 x7 σ8 hw
    rw [ekx5] at hw
    refine a_iload_2 (pc := 51) C dX6_hoursToDry_51 ?_
    refine a_if_ne (pc := 52) C 57 dX6_hoursToDry_52 (by decide) (fun c9 => ?_) (fun c9 => ?_)
    · have hw := hw.1 c9
      refine a_iconst (pc := 57) C dX6_hoursToDry_57 ic_0 ?_
      refine a_istore_3 (pc := 58) C dX6_hoursToDry_58 (by decide) rfl ?_
      refine jn_use hw (fun kx13 ekx13 hw => ?_)
      have hkx13 : ∀ (x14 : Int32) (x15 : Int32) (σ16 : MS), kx13 x14 x15 σ16 → AW G p l e (aRm 2 0 0) s m args below meth c (a_A h0 n0) 4 (MQ below (a_Qc G (m_pi Q h0 n0 u0 a) (a_A h0 n0)) args s 0 0 (a_A h0 n0)) (MW h0 n0 u0 a σ16) 96 [some (.ref a), some (.int p1), some (.int x14), some (.int x15)] [] := by
        intro x14 x15 σ16 hw
        rw [ekx13] at hw
        refine a_iload_3 (pc := 96) C dX6_hoursToDry_96 ?_
        exact a_iret C dX6_hoursToDry_97 (fun h n u hV => ⟨⟨(_, _), rfl, hw, hV⟩, m_end hs hV⟩)
      have lp59 : ∀ (F : Nat) (x10 : Int32) (x11 : Int32) (σ12 : MS), wp_X6_hoursToDry_L59 kx13 F x10 x11 σ12 → AW G p l e (aRm 2 0 0) s m args below meth c (a_A h0 n0) 4 (MQ below (a_Qc G (m_pi Q h0 n0 u0 a) (a_A h0 n0)) args s 0 0 (a_A h0 n0)) (MW h0 n0 u0 a σ12) 59 [some (.ref a), some (.int p1), some (.int x10), some (.int x11)] [] := by
        intro F
        induction F with
        | zero => intro x10 x11 σ12 hw; exact False.elim hw
        | succ F ih =>
          intro x10 x11 σ12 hw
          rw [wp_X6_hoursToDry_L59] at hw
          refine a_iload_3 (pc := 59) C dX6_hoursToDry_59 ?_
          refine a_if_eq (pc := 60) C 68 dX6_hoursToDry_60 (by decide) (fun c17 => ?_) (fun c17 => ?_)
          · have hw := hw.1 c17
            refine a_iinc_3 (pc := 68) (v := 1) C dX6_hoursToDry_68 (by decide) (by decide) rfl ?_
            refine a_iconst (pc := 71) C dX6_hoursToDry_71 ic_3 ?_
            refine a_iload_2 (pc := 72) C dX6_hoursToDry_72 ?_
            refine a_aload_0 (pc := 73) C dX6_hoursToDry_73 ?_
            refine a_aload_0 (pc := 74) C dX6_hoursToDry_74 ?_
            refine m_get_z (pc := 75) C q1758 dX6_hoursToDry_75 ?_
            refine a_iconst (pc := 78) C dX6_hoursToDry_78 ic_2 ?_
            refine m_iald (pc := 79) C (by decide) hw.1 dX6_hoursToDry_79 ?_
            have hw := hw.2
            refine a_iload_3 (pc := 80) C dX6_hoursToDry_80 ?_
            refine a_iadd (pc := 81) C dX6_hoursToDry_81 ?_
            refine m_callV1i (pc := 82) C hs (fun h n u hV => ct_X6_kilnHeat l G a _ _ _ hw h n u hV) (by decide) (by decide) rfl (lw_V q1985 q1987 qs57 q77 q1988) sg_X6_kilnHeat (Nat.le_of_ble_eq_true rfl) dX6_hoursToDry_82 (fun v19 σ18 hw => ?_)
            refine a_bipush (pc := 85) C dX6_hoursToDry_85 bc_20 ?_
            refine a_idiv (pc := 87) C dX6_hoursToDry_87 (by decide) ?_
            refine a_isub (pc := 88) C dX6_hoursToDry_88 ?_
            refine m_callS2p (pc := 89) C hs (fun h n u => ct_X6_most l G _ _ _ hw h n u) (by decide) (by decide) (lw_S q1934 q1935 q77 q1936) sg_X6_most (Nat.le_of_ble_eq_true rfl) dX6_hoursToDry_89 (fun v20 hw => ?_)
            refine a_istore_2 (pc := 92) C dX6_hoursToDry_92 (by decide) rfl ?_
            refine a_goto (pc := 93) C 59 dX6_hoursToDry_93 (by decide) ?_
            exact ih _ _ _ hw
          · have hw := hw.2 c17
            refine a_iload_2 (pc := 63) C dX6_hoursToDry_63 ?_
            refine a_iconst (pc := 64) C dX6_hoursToDry_64 ic_4 ?_
            refine a_icmp_le (pc := 65) C 96 dX6_hoursToDry_65 (by decide) (fun c21 => ?_) (fun c21 => ?_)
            · have hw := hw.1 c21
              exact hkx13 _ _ _ hw
            · have hw := hw.2 c21
              refine a_iinc_3 (pc := 68) (v := 1) C dX6_hoursToDry_68 (by decide) (by decide) rfl ?_
              refine a_iconst (pc := 71) C dX6_hoursToDry_71 ic_3 ?_
              refine a_iload_2 (pc := 72) C dX6_hoursToDry_72 ?_
              refine a_aload_0 (pc := 73) C dX6_hoursToDry_73 ?_
              refine a_aload_0 (pc := 74) C dX6_hoursToDry_74 ?_
              refine m_get_z (pc := 75) C q1758 dX6_hoursToDry_75 ?_
              refine a_iconst (pc := 78) C dX6_hoursToDry_78 ic_2 ?_
              refine m_iald (pc := 79) C (by decide) hw.1 dX6_hoursToDry_79 ?_
              have hw := hw.2
              refine a_iload_3 (pc := 80) C dX6_hoursToDry_80 ?_
              refine a_iadd (pc := 81) C dX6_hoursToDry_81 ?_
              refine m_callV1i (pc := 82) C hs (fun h n u hV => ct_X6_kilnHeat l G a _ _ _ hw h n u hV) (by decide) (by decide) rfl (lw_V q1985 q1987 qs57 q77 q1988) sg_X6_kilnHeat (Nat.le_of_ble_eq_true rfl) dX6_hoursToDry_82 (fun v23 σ22 hw => ?_)
              refine a_bipush (pc := 85) C dX6_hoursToDry_85 bc_20 ?_
              refine a_idiv (pc := 87) C dX6_hoursToDry_87 (by decide) ?_
              refine a_isub (pc := 88) C dX6_hoursToDry_88 ?_
              refine m_callS2p (pc := 89) C hs (fun h n u => ct_X6_most l G _ _ _ hw h n u) (by decide) (by decide) (lw_S q1934 q1935 q77 q1936) sg_X6_most (Nat.le_of_ble_eq_true rfl) dX6_hoursToDry_89 (fun v24 hw => ?_)
              refine a_istore_2 (pc := 92) C dX6_hoursToDry_92 (by decide) rfl ?_
              refine a_goto (pc := 93) C 59 dX6_hoursToDry_93 (by decide) ?_
              exact ih _ _ _ hw
      exact lp59 mF _ _ _ hw
    · have hw := hw.2 c9
      refine a_iconst (pc := 55) C dX6_hoursToDry_55 ic_m1 ?_
      exact a_iret C dX6_hoursToDry_56 (fun h n u hV => ⟨⟨(_, _), rfl, hw, hV⟩, m_end hs hV⟩)
  have lp9 : ∀ (F : Nat) (x2 : Int32) (x3 : Int32) (σ4 : MS), wp_X6_hoursToDry_L9 kx5 F x2 x3 σ4 → AW G p l e (aRm 2 0 0) s m args below meth c (a_A h0 n0) 4 (MQ below (a_Qc G (m_pi Q h0 n0 u0 a) (a_A h0 n0)) args s 0 0 (a_A h0 n0)) (MW h0 n0 u0 a σ4) 9 [some (.ref a), some (.int p1), some (.int x2), some (.int x3)] [] := by
    intro F
    induction F with
    | zero => intro x2 x3 σ4 hw; exact False.elim hw
    | succ F ih =>
      intro x2 x3 σ4 hw
      rw [wp_X6_hoursToDry_L9] at hw
      refine a_iload_3 (pc := 9) C dX6_hoursToDry_9 ?_
      refine a_aload_0 (pc := 10) C dX6_hoursToDry_10 ?_
      refine m_get_z (pc := 11) C q1758 dX6_hoursToDry_11 ?_
      refine a_bipush (pc := 14) C dX6_hoursToDry_14 bc_7 ?_
      refine m_iald (pc := 16) C (by decide) hw.1 dX6_hoursToDry_16 ?_
      have hw := hw.2
      refine a_icmp_ge (pc := 17) C 51 dX6_hoursToDry_17 (by decide) (fun c25 => ?_) (fun c25 => ?_)
      · have hw := hw.1 c25
        exact hkx5 _ _ _ hw
      · have hw := hw.2 c25
        refine a_aload_0 (pc := 20) C dX6_hoursToDry_20 ?_
        refine a_iload_3 (pc := 21) C dX6_hoursToDry_21 ?_
        refine a_iconst (pc := 22) C dX6_hoursToDry_22 ic_0 ?_
        refine m_callV2i (pc := 23) C hs (fun h n u hV => ct_X6_of l G a _ _ _ _ hw h n u hV) (by decide) (by decide) rfl (lw_V q1844 q1846 qs35 q77 q1847) sg_X6_of (Nat.le_of_ble_eq_true rfl) dX6_hoursToDry_23 (fun v27 σ26 hw => ?_)
        refine a_iconst (pc := 26) C dX6_hoursToDry_26 ic_4 ?_
        refine jn_use hw (fun kj29 ekj29 hw => ?_)
        have hkj29 : ∀ (x30 : Int32) (σ31 : MS), kj29 x30 σ31 → AW G p l e (aRm 2 0 0) s m args below meth c (a_A h0 n0) 4 (MQ below (a_Qc G (m_pi Q h0 n0 u0 a) (a_A h0 n0)) args s 0 0 (a_A h0 n0)) (MW h0 n0 u0 a σ31) 44 [some (.ref a), some (.int p1), some (.int x2), some (.int x3)] [.int x30] := by
          intro x30 σ31 hw
          rw [ekj29] at hw
          refine a_istore_2 (pc := 44) C dX6_hoursToDry_44 (by decide) rfl ?_
          refine a_iinc_3 (pc := 45) (v := 1) C dX6_hoursToDry_45 (by decide) (by decide) rfl ?_
          refine a_goto (pc := 48) C 9 dX6_hoursToDry_48 (by decide) ?_
          exact ih _ _ _ hw
        refine a_icmp_ne (pc := 27) C 43 dX6_hoursToDry_27 (by decide) (fun c28 => ?_) (fun c28 => ?_)
        · have hw := hw.1 c28
          refine a_iload_2 (pc := 43) C dX6_hoursToDry_43 ?_
          exact hkj29 _ _ hw
        · have hw := hw.2 c28
          refine a_iload_2 (pc := 30) C dX6_hoursToDry_30 ?_
          refine a_aload_0 (pc := 31) C dX6_hoursToDry_31 ?_
          refine a_iload_3 (pc := 32) C dX6_hoursToDry_32 ?_
          refine a_iconst (pc := 33) C dX6_hoursToDry_33 ic_4 ?_
          refine m_callV2i (pc := 34) C hs (fun h n u hV => ct_X6_of l G a _ _ _ _ hw h n u hV) (by decide) (by decide) rfl (lw_V q1844 q1846 qs35 q77 q1847) sg_X6_of (Nat.le_of_ble_eq_true rfl) dX6_hoursToDry_34 (fun v33 σ32 hw => ?_)
          refine m_callS2p (pc := 37) C hs (fun h n u => ct_X6_most l G _ _ _ hw h n u) (by decide) (by decide) (lw_S q1934 q1935 q77 q1936) sg_X6_most (Nat.le_of_ble_eq_true rfl) dX6_hoursToDry_37 (fun v34 hw => ?_)
          refine a_goto (pc := 40) C 44 dX6_hoursToDry_40 (by decide) ?_
          exact hkj29 _ _ hw
  exact lp9 mF _ _ _ hw
def wp_X6_bestAir_L62 (kx16 : Int32 → Int32 → Int32 → MS → Prop) (v10 : Int32) (p1 : Int32) : Nat → Int32 → Int32 → Int32 → MS → Prop
  | 0, _, _, _, _ => False
  | F + 1, x12, x13, x14, σ15 => (((3 < x14) → (kx16 x12 x13 x14 σ15)) ∧ ((¬ 3 < x14) → (vp_in (32 + (3 * v10)) (mLen 0) ∧ ∀ σ22 : MS, σ22 = mU σ15 0 (32 + (3 * v10)).toNatClampNeg x14 → (wp_X6_hours 24 σ22 (fun v24 σ23 => (wp_X6_of p1 6 σ23 (fun v26 σ25 => (jn (fun (x29 : Int32) => (wp_X6_of p1 0 σ25 (fun v31 σ30 => (jn (fun (x34 : Int32) (x35 : Int32) => (wp_X6_copyState 1 0 0 0 σ30 (fun σ36 => (wp_X6_bestAir_L62 kx16 v10 p1 F x34 x35 (x14 + 1) σ36)))) (fun kj33 => (((¬ v31 = 2) → (kj33 x12 x13)) ∧ ((v31 = 2) → (((x13 ≤ x29) → (kj33 x12 x13)) ∧ ((¬ x13 ≤ x29) → (kj33 x14 x29)))))))))) (fun kj28 => (((0 ≤ (v26 - 18)) → (kj28 (v26 - 18))) ∧ ((¬ 0 ≤ (v26 - 18)) → (kj28 (-(v26 - 18))))))))))))))
def wp_X6_bestAir (p1 : Int32) (σ : MS) (Q : Int32 → MS → Prop) : Prop := (wp_X6_isLot p1 σ (fun v2 σ1 => (wp_X6_goes v2 1 σ1 (fun v4 σ3 => (((¬ v4 = 0) → (wp_X6_of p1 0 σ3 (fun v7 σ6 => (((v7 = 2) → (wp_X6_of p1 1 σ6 (fun v10 σ9 => (wp_X6_copyState 0 0 1 0 σ9 (fun σ11 => (jn (fun (x17 : Int32) (x18 : Int32) (x19 : Int32) (σ20 : MS) => (Q x17 σ20)) (fun kx16 => wp_X6_bestAir_L62 kx16 v10 p1 mF ((-1)) 1000 0 σ11))))))) ∧ ((¬ v7 = 2) → (Q ((-1)) σ6)))))) ∧ ((v4 = 0) → (Q 0 σ3)))))))
theorem sg_X6_bestAir : aSig yX6_bestAir 1 := by decide +kernel
set_option maxHeartbeats 4000000 in
theorem ct_X6_bestAir (l : Launch) (G : aG) (a : Nat) (p1 : Int32)  (σ : MS) (Q : Int32 → MS → Prop) (hw : wp_X6_bestAir p1 σ Q) (h0 : AH) (n0 u0 : Nat) (hV : MV h0 a σ) : CT l yX6_bestAir (ws_ yX6_bestAir cX6_bestAir 8 (some .int)) 6 G [.ref a, .int p1] h0 n0 u0 0 0 (m_pi Q h0 n0 u0 a) := by
  refine CT.intro [some (.ref a), some (.int p1), none, none, none, none, none, none] pn_RX6 rfl (Nat.le_of_ble_eq_true rfl) ?_
  intro p e s m args below meth c C hz hu
  have hs : s.heap.size = n0 ∧ slT s.heap = u0 := ⟨hz, hu⟩
  refine a_world (V1 := MW h0 n0 u0 a σ) (MW.start hV) ?_
  unfold wp_X6_bestAir at hw
  refine a_aload_0 (pc := 0) C dX6_bestAir_0 ?_
  refine a_aload_0 (pc := 1) C dX6_bestAir_1 ?_
  refine a_iload_1 (pc := 2) C dX6_bestAir_2 ?_
  refine m_callV1i (pc := 3) C hs (fun h n u hV => ct_X6_isLot l G a _ _ _ hw h n u hV) (by decide) (by decide) rfl (lw_V q1836 q1838 qs33 q77 q1839) sg_X6_isLot (Nat.le_of_ble_eq_true rfl) dX6_bestAir_3 (fun v2 σ1 hw => ?_)
  refine a_iconst (pc := 6) C dX6_bestAir_6 ic_1 ?_
  refine m_callV2i (pc := 7) C hs (fun h n u hV => ct_X6_goes l G a _ _ _ _ hw h n u hV) (by decide) (by decide) rfl (lw_V q1794 q1796 qs29 q77 q1797) sg_X6_goes (Nat.le_of_ble_eq_true rfl) dX6_bestAir_7 (fun v4 σ3 hw => ?_)
  refine a_if_ne (pc := 10) C 15 dX6_bestAir_10 (by decide) (fun c5 => ?_) (fun c5 => ?_)
  · have hw := hw.1 c5
    refine a_aload_0 (pc := 15) C dX6_bestAir_15 ?_
    refine a_iload_1 (pc := 16) C dX6_bestAir_16 ?_
    refine a_iconst (pc := 17) C dX6_bestAir_17 ic_0 ?_
    refine m_callV2i (pc := 18) C hs (fun h n u hV => ct_X6_of l G a _ _ _ _ hw h n u hV) (by decide) (by decide) rfl (lw_V q1844 q1846 qs35 q77 q1847) sg_X6_of (Nat.le_of_ble_eq_true rfl) dX6_bestAir_18 (fun v7 σ6 hw => ?_)
    refine a_iconst (pc := 21) C dX6_bestAir_21 ic_2 ?_
    refine a_icmp_eq (pc := 22) C 27 dX6_bestAir_22 (by decide) (fun c8 => ?_) (fun c8 => ?_)
    · have hw := hw.1 c8
      refine a_iconst (pc := 27) C dX6_bestAir_27 ic_m1 ?_
      refine a_istore_2 (pc := 28) C dX6_bestAir_28 (by decide) rfl ?_
      refine a_sipush (pc := 29) C dX6_bestAir_29 sc_1000 ?_
      refine a_istore_3 (pc := 32) C dX6_bestAir_32 (by decide) rfl ?_
      refine a_bipush (pc := 33) C dX6_bestAir_33 bc_32 ?_
      refine a_iconst (pc := 35) C dX6_bestAir_35 ic_3 ?_
      refine a_aload_0 (pc := 36) C dX6_bestAir_36 ?_
      refine a_iload_1 (pc := 37) C dX6_bestAir_37 ?_
      refine a_iconst (pc := 38) C dX6_bestAir_38 ic_1 ?_
      refine m_callV2i (pc := 39) C hs (fun h n u hV => ct_X6_of l G a _ _ _ _ hw h n u hV) (by decide) (by decide) rfl (lw_V q1844 q1846 qs35 q77 q1847) sg_X6_of (Nat.le_of_ble_eq_true rfl) dX6_bestAir_39 (fun v10 σ9 hw => ?_)
      refine a_imul (pc := 42) C dX6_bestAir_42 ?_
      refine a_iadd (pc := 43) C dX6_bestAir_43 ?_
      refine a_istore_4 (pc := 44) C dX6_bestAir_44 (by decide) rfl ?_
      refine a_aload_0 (pc := 46) C dX6_bestAir_46 ?_
      refine m_get_z (pc := 47) C q1758 dX6_bestAir_47 ?_
      refine a_iconst (pc := 50) C dX6_bestAir_50 ic_0 ?_
      refine a_aload_0 (pc := 51) C dX6_bestAir_51 ?_
      refine m_get_spare (pc := 52) C q1759 dX6_bestAir_52 ?_
      refine a_iconst (pc := 55) C dX6_bestAir_55 ic_0 ?_
      refine m_callS4w (pc := 56) C hs (fun h n u hV => ct_X6_copyState l G a _ _ _ _ (by decide) (by decide) _ _ hw h n u hV) (by decide) (by decide) (lw_S q1798 q1799 q77 q1800) sg_X6_copyState (Nat.le_of_ble_eq_true rfl) dX6_bestAir_56 (fun σ11 hw => ?_)
      refine a_iconst (pc := 59) C dX6_bestAir_59 ic_0 ?_
      refine a_istore_5 (pc := 60) C dX6_bestAir_60 (by decide) rfl ?_
      refine jn_use hw (fun kx16 ekx16 hw => ?_)
      have hkx16 : ∀ (x17 : Int32) (x18 : Int32) (x19 : Int32) (σ20 : MS), kx16 x17 x18 x19 σ20 → AW G p l e (aRm 6 0 0) s m args below meth c (a_A h0 n0) 8 (MQ below (a_Qc G (m_pi Q h0 n0 u0 a) (a_A h0 n0)) args s 0 0 (a_A h0 n0)) (MW h0 n0 u0 a σ20) 153 [some (.ref a), some (.int p1), some (.int x17), some (.int x18), some (.int (32 + (3 * v10))), some (.int x19), none, none] [] := by
        intro x17 x18 x19 σ20 hw
        rw [ekx16] at hw
        refine a_iload_2 (pc := 153) C dX6_bestAir_153 ?_
        exact a_iret C dX6_bestAir_154 (fun h n u hV => ⟨⟨(_, _), rfl, hw, hV⟩, m_end hs hV⟩)
      have lp62 : ∀ (F : Nat) (x12 : Int32) (x13 : Int32) (x14 : Int32) (σ15 : MS), wp_X6_bestAir_L62 kx16 v10 p1 F x12 x13 x14 σ15 → AW G p l e (aRm 6 0 0) s m args below meth c (a_A h0 n0) 8 (MQ below (a_Qc G (m_pi Q h0 n0 u0 a) (a_A h0 n0)) args s 0 0 (a_A h0 n0)) (MW h0 n0 u0 a σ15) 62 [some (.ref a), some (.int p1), some (.int x12), some (.int x13), some (.int (32 + (3 * v10))), some (.int x14), none, none] [] := by
        intro F
        induction F with
        | zero => intro x12 x13 x14 σ15 hw; exact False.elim hw
        | succ F ih =>
          intro x12 x13 x14 σ15 hw
          rw [wp_X6_bestAir_L62] at hw
          refine a_iload_5 (pc := 62) C dX6_bestAir_62 ?_
          refine a_iconst (pc := 64) C dX6_bestAir_64 ic_3 ?_
          refine a_icmp_gt (pc := 65) C 153 dX6_bestAir_65 (by decide) (fun c21 => ?_) (fun c21 => ?_)
          · have hw := hw.1 c21
            exact hkx16 _ _ _ _ hw
          · have hw := hw.2 c21
            refine a_aload_0 (pc := 68) C dX6_bestAir_68 ?_
            refine m_get_z (pc := 69) C q1758 dX6_bestAir_69 ?_
            refine a_iload_4 (pc := 72) C dX6_bestAir_72 ?_
            refine a_iload_5 (pc := 74) C dX6_bestAir_74 ?_
            refine m_iast (pc := 76) C (by decide) hw.1 dX6_bestAir_76 (fun σ22 eσ22 => ?_)
            have hw := hw.2 σ22 eσ22
            refine a_aload_0 (pc := 77) C dX6_bestAir_77 ?_
            refine a_bipush (pc := 78) C dX6_bestAir_78 bc_24 ?_
            refine m_callV1i (pc := 80) C hs (fun h n u hV => ct_X6_hours l G a _ _ _ hw h n u hV) (by decide) (by decide) rfl (lw_V q1965 q1967 qs52 q77 q1968) sg_X6_hours (Nat.le_of_ble_eq_true rfl) dX6_bestAir_80 (fun v24 σ23 hw => ?_)
            refine a_istore_6 (pc := 83) C dX6_bestAir_83 (by decide) rfl ?_
            refine a_aload_0 (pc := 85) C dX6_bestAir_85 ?_
            refine a_iload_1 (pc := 86) C dX6_bestAir_86 ?_
            refine a_bipush (pc := 87) C dX6_bestAir_87 bc_6 ?_
            refine m_callV2i (pc := 89) C hs (fun h n u hV => ct_X6_of l G a _ _ _ _ hw h n u hV) (by decide) (by decide) rfl (lw_V q1844 q1846 qs35 q77 q1847) sg_X6_of (Nat.le_of_ble_eq_true rfl) dX6_bestAir_89 (fun v26 σ25 hw => ?_)
            refine a_bipush (pc := 92) C dX6_bestAir_92 bc_18 ?_
            refine a_isub (pc := 94) C dX6_bestAir_94 ?_
            refine a_istore_7 (pc := 95) C dX6_bestAir_95 (by decide) rfl ?_
            refine a_iload_7 (pc := 97) C dX6_bestAir_97 ?_
            refine jn_use hw (fun kj28 ekj28 hw => ?_)
            have hkj28 : ∀ (x29 : Int32), kj28 x29 → AW G p l e (aRm 6 0 0) s m args below meth c (a_A h0 n0) 8 (MQ below (a_Qc G (m_pi Q h0 n0 u0 a) (a_A h0 n0)) args s 0 0 (a_A h0 n0)) (MW h0 n0 u0 a σ25) 110 [some (.ref a), some (.int p1), some (.int x12), some (.int x13), some (.int (32 + (3 * v10))), some (.int x14), some (.int v24), some (.int (v26 - 18))] [.int x29] := by
              intro x29 hw
              rw [ekj28] at hw
              refine a_istore_7 (pc := 110) C dX6_bestAir_110 (by decide) rfl ?_
              refine a_aload_0 (pc := 112) C dX6_bestAir_112 ?_
              refine a_iload_1 (pc := 113) C dX6_bestAir_113 ?_
              refine a_iconst (pc := 114) C dX6_bestAir_114 ic_0 ?_
              refine m_callV2i (pc := 115) C hs (fun h n u hV => ct_X6_of l G a _ _ _ _ hw h n u hV) (by decide) (by decide) rfl (lw_V q1844 q1846 qs35 q77 q1847) sg_X6_of (Nat.le_of_ble_eq_true rfl) dX6_bestAir_115 (fun v31 σ30 hw => ?_)
              refine a_iconst (pc := 118) C dX6_bestAir_118 ic_2 ?_
              refine jn_use hw (fun kj33 ekj33 hw => ?_)
              have hkj33 : ∀ (x34 : Int32) (x35 : Int32), kj33 x34 x35 → AW G p l e (aRm 6 0 0) s m args below meth c (a_A h0 n0) 8 (MQ below (a_Qc G (m_pi Q h0 n0 u0 a) (a_A h0 n0)) args s 0 0 (a_A h0 n0)) (MW h0 n0 u0 a σ30) 134 [some (.ref a), some (.int p1), some (.int x34), some (.int x35), some (.int (32 + (3 * v10))), some (.int x14), some (.int v24), some (.int x29)] [] := by
                intro x34 x35 hw
                rw [ekj33] at hw
                refine a_aload_0 (pc := 134) C dX6_bestAir_134 ?_
                refine m_get_spare (pc := 135) C q1759 dX6_bestAir_135 ?_
                refine a_iconst (pc := 138) C dX6_bestAir_138 ic_0 ?_
                refine a_aload_0 (pc := 139) C dX6_bestAir_139 ?_
                refine m_get_z (pc := 140) C q1758 dX6_bestAir_140 ?_
                refine a_iconst (pc := 143) C dX6_bestAir_143 ic_0 ?_
                refine m_callS4w (pc := 144) C hs (fun h n u hV => ct_X6_copyState l G a _ _ _ _ (by decide) (by decide) _ _ hw h n u hV) (by decide) (by decide) (lw_S q1798 q1799 q77 q1800) sg_X6_copyState (Nat.le_of_ble_eq_true rfl) dX6_bestAir_144 (fun σ36 hw => ?_)
                refine a_iinc_5 (pc := 147) (v := 1) C dX6_bestAir_147 (by decide) (by decide) rfl ?_
                refine a_goto (pc := 150) C 62 dX6_bestAir_150 (by decide) ?_
                exact a_weak (a_le_some (a_le_some (a_le_some (a_le_some (a_le_some (a_le_some (a_le_none (a_le_none a_le_nil)))))))) (ih _ _ _ _ hw)
              refine a_icmp_ne (pc := 119) C 134 dX6_bestAir_119 (by decide) (fun c32 => ?_) (fun c32 => ?_)
              · have hw := hw.1 c32
                exact hkj33 _ _ hw
              · have hw := hw.2 c32
                refine a_iload_7 (pc := 122) C dX6_bestAir_122 ?_
                refine a_iload_3 (pc := 124) C dX6_bestAir_124 ?_
                refine a_icmp_ge (pc := 125) C 134 dX6_bestAir_125 (by decide) (fun c37 => ?_) (fun c37 => ?_)
                · have hw := hw.1 c37
                  exact hkj33 _ _ hw
                · have hw := hw.2 c37
                  refine a_iload_5 (pc := 128) C dX6_bestAir_128 ?_
                  refine a_istore_2 (pc := 130) C dX6_bestAir_130 (by decide) rfl ?_
                  refine a_iload_7 (pc := 131) C dX6_bestAir_131 ?_
                  refine a_istore_3 (pc := 133) C dX6_bestAir_133 (by decide) rfl ?_
                  exact hkj33 _ _ hw
            refine a_if_ge (pc := 99) C 108 dX6_bestAir_99 (by decide) (fun c27 => ?_) (fun c27 => ?_)
            · have hw := hw.1 c27
              refine a_iload_7 (pc := 108) C dX6_bestAir_108 ?_
              exact hkj28 _ hw
            · have hw := hw.2 c27
              refine a_iload_7 (pc := 102) C dX6_bestAir_102 ?_
              refine a_ineg (pc := 104) C dX6_bestAir_104 ?_
              refine a_goto (pc := 105) C 110 dX6_bestAir_105 (by decide) ?_
              exact hkj28 _ hw
      exact lp62 mF _ _ _ _ hw
    · have hw := hw.2 c8
      refine a_iconst (pc := 25) C dX6_bestAir_25 ic_m1 ?_
      exact a_iret C dX6_bestAir_26 (fun h n u hV => ⟨⟨(_, _), rfl, hw, hV⟩, m_end hs hV⟩)
  · have hw := hw.2 c5
    refine a_iconst (pc := 13) C dX6_bestAir_13 ic_0 ?_
    exact a_iret C dX6_bestAir_14 (fun h n u hV => ⟨⟨(_, _), rfl, hw, hV⟩, m_end hs hV⟩)
def wp_X6_entries (σ : MS) (Q : Int32 → MS → Prop) : Prop := (∀ σ1 : MS, σ1 = mU σ 5 3 0 → (vp_in 14 (mLen 0) ∧ (Q (σ1 0 (14 : Int32).toNatClampNeg) σ1)))
theorem sg_X6_entries : aSig yX6_entries 0 := by decide +kernel
set_option maxHeartbeats 4000000 in
theorem ct_X6_entries (l : Launch) (G : aG) (a : Nat)   (σ : MS) (Q : Int32 → MS → Prop) (hw : wp_X6_entries  σ Q) (h0 : AH) (n0 u0 : Nat) (hV : MV h0 a σ) : CT l yX6_entries (ws_ yX6_entries cX6_entries 1 (some .int)) 1 G [.ref a] h0 n0 u0 0 0 (m_pi Q h0 n0 u0 a) := by
  refine CT.intro [some (.ref a)] pn_RX6 rfl (Nat.le_of_ble_eq_true rfl) ?_
  intro p e s m args below meth c C hz hu
  have hs : s.heap.size = n0 ∧ slT s.heap = u0 := ⟨hz, hu⟩
  refine a_world (V1 := MW h0 n0 u0 a σ) (MW.start hV) ?_
  unfold wp_X6_entries at hw
  refine a_aload_0 (pc := 0) C dX6_entries_0 ?_
  refine a_iconst (pc := 1) C dX6_entries_1 ic_0 ?_
  refine m_put_thrown (pc := 2) C q1766 dX6_entries_2 (fun σ1 eσ1 => ?_)
  have hw := hw σ1 eσ1
  refine a_aload_0 (pc := 5) C dX6_entries_5 ?_
  refine m_get_z (pc := 6) C q1758 dX6_entries_6 ?_
  refine a_bipush (pc := 9) C dX6_entries_9 bc_14 ?_
  refine m_iald (pc := 11) C (by decide) hw.1 dX6_entries_11 ?_
  have hw := hw.2
  exact a_iret C dX6_entries_12 (fun h n u hV => ⟨⟨(_, _), rfl, hw, hV⟩, m_end hs hV⟩)
def wp_X6_entryAt (p1 : Int32) (σ : MS) (Q : Int32 → MS → Prop) : Prop := (vp_in 14 (mLen 0) ∧ (wp_X6_in p1 0 ((σ 0 (14 : Int32).toNatClampNeg) - 1) (fun v1 => (wp_X6_goes v1 1 σ (fun v3 σ2 => (((v3 = 0) → (Q 0 σ2)) ∧ ((¬ v3 = 0) → (vp_in (20 + p1) (mLen 0) ∧ (Q (σ2 0 (20 + p1).toNatClampNeg) σ2)))))))))
theorem sg_X6_entryAt : aSig yX6_entryAt 1 := by decide +kernel
set_option maxHeartbeats 4000000 in
theorem ct_X6_entryAt (l : Launch) (G : aG) (a : Nat) (p1 : Int32)  (σ : MS) (Q : Int32 → MS → Prop) (hw : wp_X6_entryAt p1 σ Q) (h0 : AH) (n0 u0 : Nat) (hV : MV h0 a σ) : CT l yX6_entryAt (ws_ yX6_entryAt cX6_entryAt 2 (some .int)) 2 G [.ref a, .int p1] h0 n0 u0 0 0 (m_pi Q h0 n0 u0 a) := by
  refine CT.intro [some (.ref a), some (.int p1)] pn_RX6 rfl (Nat.le_of_ble_eq_true rfl) ?_
  intro p e s m args below meth c C hz hu
  have hs : s.heap.size = n0 ∧ slT s.heap = u0 := ⟨hz, hu⟩
  refine a_world (V1 := MW h0 n0 u0 a σ) (MW.start hV) ?_
  unfold wp_X6_entryAt at hw
  refine a_aload_0 (pc := 0) C dX6_entryAt_0 ?_
  refine a_iload_1 (pc := 1) C dX6_entryAt_1 ?_
  refine a_iconst (pc := 2) C dX6_entryAt_2 ic_0 ?_
  refine a_aload_0 (pc := 3) C dX6_entryAt_3 ?_
  refine m_get_z (pc := 4) C q1758 dX6_entryAt_4 ?_
  refine a_bipush (pc := 7) C dX6_entryAt_7 bc_14 ?_
  refine m_iald (pc := 9) C (by decide) hw.1 dX6_entryAt_9 ?_
  have hw := hw.2
  refine a_iconst (pc := 10) C dX6_entryAt_10 ic_1 ?_
  refine a_isub (pc := 11) C dX6_entryAt_11 ?_
  refine m_callS3p (pc := 12) C hs (fun h n u => ct_X6_in l G _ _ _ _ hw h n u) (by decide) (by decide) (lw_S q1821 q1822 q77 q1823) sg_X6_in (Nat.le_of_ble_eq_true rfl) dX6_entryAt_12 (fun v1 hw => ?_)
  refine a_iconst (pc := 15) C dX6_entryAt_15 ic_1 ?_
  refine m_callV2i (pc := 16) C hs (fun h n u hV => ct_X6_goes l G a _ _ _ _ hw h n u hV) (by decide) (by decide) rfl (lw_V q1794 q1796 qs29 q77 q1797) sg_X6_goes (Nat.le_of_ble_eq_true rfl) dX6_entryAt_16 (fun v3 σ2 hw => ?_)
  refine a_if_eq (pc := 19) C 34 dX6_entryAt_19 (by decide) (fun c4 => ?_) (fun c4 => ?_)
  · have hw := hw.1 c4
    refine a_iconst (pc := 34) C dX6_entryAt_34 ic_0 ?_
    exact a_iret C dX6_entryAt_35 (fun h n u hV => ⟨⟨(_, _), rfl, hw, hV⟩, m_end hs hV⟩)
  · have hw := hw.2 c4
    refine a_aload_0 (pc := 22) C dX6_entryAt_22 ?_
    refine m_get_z (pc := 23) C q1758 dX6_entryAt_23 ?_
    refine a_bipush (pc := 26) C dX6_entryAt_26 bc_20 ?_
    refine a_iload_1 (pc := 28) C dX6_entryAt_28 ?_
    refine a_iadd (pc := 29) C dX6_entryAt_29 ?_
    refine m_iald (pc := 30) C (by decide) hw.1 dX6_entryAt_30 ?_
    have hw := hw.2
    refine a_goto (pc := 31) C 35 dX6_entryAt_31 (by decide) ?_
    exact a_iret C dX6_entryAt_35 (fun h n u hV => ⟨⟨(_, _), rfl, hw, hV⟩, m_end hs hV⟩)
def wp_X6_time (σ : MS) (Q : Int32 → MS → Prop) : Prop := (∀ σ1 : MS, σ1 = mU σ 5 3 0 → (vp_in 0 (mLen 0) ∧ (Q (σ1 0 (0 : Int32).toNatClampNeg) σ1)))
theorem sg_X6_time : aSig yX6_time 0 := by decide +kernel
set_option maxHeartbeats 4000000 in
theorem ct_X6_time (l : Launch) (G : aG) (a : Nat)   (σ : MS) (Q : Int32 → MS → Prop) (hw : wp_X6_time  σ Q) (h0 : AH) (n0 u0 : Nat) (hV : MV h0 a σ) : CT l yX6_time (ws_ yX6_time cX6_time 1 (some .int)) 1 G [.ref a] h0 n0 u0 0 0 (m_pi Q h0 n0 u0 a) := by
  refine CT.intro [some (.ref a)] pn_RX6 rfl (Nat.le_of_ble_eq_true rfl) ?_
  intro p e s m args below meth c C hz hu
  have hs : s.heap.size = n0 ∧ slT s.heap = u0 := ⟨hz, hu⟩
  refine a_world (V1 := MW h0 n0 u0 a σ) (MW.start hV) ?_
  unfold wp_X6_time at hw
  refine a_aload_0 (pc := 0) C dX6_time_0 ?_
  refine a_iconst (pc := 1) C dX6_time_1 ic_0 ?_
  refine m_put_thrown (pc := 2) C q1766 dX6_time_2 (fun σ1 eσ1 => ?_)
  have hw := hw σ1 eσ1
  refine a_aload_0 (pc := 5) C dX6_time_5 ?_
  refine m_get_z (pc := 6) C q1758 dX6_time_6 ?_
  refine a_iconst (pc := 9) C dX6_time_9 ic_0 ?_
  refine m_iald (pc := 10) C (by decide) hw.1 dX6_time_10 ?_
  have hw := hw.2
  exact a_iret C dX6_time_11 (fun h n u hV => ⟨⟨(_, _), rfl, hw, hV⟩, m_end hs hV⟩)
def wp_X6_steeped (p1 : Int32) (σ : MS) (Q : Int32 → MS → Prop) : Prop := (∀ σ1 : MS, σ1 = mU σ 5 3 0 → (((p1 = 0) → (vp_in 8 (mLen 0) ∧ (Q (σ1 0 (8 : Int32).toNatClampNeg) σ1))) ∧ ((¬ p1 = 0) → (vp_in 9 (mLen 0) ∧ (vp_in 10 (mLen 0) ∧ (vp_in 11 (mLen 0) ∧ (vp_in 12 (mLen 0) ∧ (wp_X6_weightIn 1 σ1 (fun v4 σ3 => (wp_X6_weightIn 2 σ3 (fun v6 σ5 => (wp_X6_weightIn 3 σ5 (fun v8 σ7 => (wp_X6_weightIn 4 σ7 (fun v10 σ9 => (Q ((((((((σ1 0 (9 : Int32).toNatClampNeg) + (σ1 0 (10 : Int32).toNatClampNeg)) + (σ1 0 (11 : Int32).toNatClampNeg)) + (σ1 0 (12 : Int32).toNatClampNeg)) + v4) + v6) + v8) + v10) σ9))))))))))))))))
theorem sg_X6_steeped : aSig yX6_steeped 1 := by decide +kernel
set_option maxHeartbeats 4000000 in
theorem ct_X6_steeped (l : Launch) (G : aG) (a : Nat) (p1 : Int32)  (σ : MS) (Q : Int32 → MS → Prop) (hw : wp_X6_steeped p1 σ Q) (h0 : AH) (n0 u0 : Nat) (hV : MV h0 a σ) : CT l yX6_steeped (ws_ yX6_steeped cX6_steeped 2 (some .int)) 4 G [.ref a, .int p1] h0 n0 u0 0 0 (m_pi Q h0 n0 u0 a) := by
  refine CT.intro [some (.ref a), some (.int p1)] pn_RX6 rfl (Nat.le_of_ble_eq_true rfl) ?_
  intro p e s m args below meth c C hz hu
  have hs : s.heap.size = n0 ∧ slT s.heap = u0 := ⟨hz, hu⟩
  refine a_world (V1 := MW h0 n0 u0 a σ) (MW.start hV) ?_
  unfold wp_X6_steeped at hw
  refine a_aload_0 (pc := 0) C dX6_steeped_0 ?_
  refine a_iconst (pc := 1) C dX6_steeped_1 ic_0 ?_
  refine m_put_thrown (pc := 2) C q1766 dX6_steeped_2 (fun σ1 eσ1 => ?_)
  have hw := hw σ1 eσ1
  refine a_iload_1 (pc := 5) C dX6_steeped_5 ?_
  refine a_if_eq (pc := 6) C 67 dX6_steeped_6 (by decide) (fun c2 => ?_) (fun c2 => ?_)
  · have hw := hw.1 c2
    refine a_aload_0 (pc := 67) C dX6_steeped_67 ?_
    refine m_get_z (pc := 68) C q1758 dX6_steeped_68 ?_
    refine a_bipush (pc := 71) C dX6_steeped_71 bc_8 ?_
    refine m_iald (pc := 73) C (by decide) hw.1 dX6_steeped_73 ?_
    have hw := hw.2
    exact a_iret C dX6_steeped_74 (fun h n u hV => ⟨⟨(_, _), rfl, hw, hV⟩, m_end hs hV⟩)
  · have hw := hw.2 c2
    refine a_aload_0 (pc := 9) C dX6_steeped_9 ?_
    refine m_get_z (pc := 10) C q1758 dX6_steeped_10 ?_
    refine a_bipush (pc := 13) C dX6_steeped_13 bc_9 ?_
    refine m_iald (pc := 15) C (by decide) hw.1 dX6_steeped_15 ?_
    have hw := hw.2
    refine a_aload_0 (pc := 16) C dX6_steeped_16 ?_
    refine m_get_z (pc := 17) C q1758 dX6_steeped_17 ?_
    refine a_bipush (pc := 20) C dX6_steeped_20 bc_10 ?_
    refine m_iald (pc := 22) C (by decide) hw.1 dX6_steeped_22 ?_
    have hw := hw.2
    refine a_iadd (pc := 23) C dX6_steeped_23 ?_
    refine a_aload_0 (pc := 24) C dX6_steeped_24 ?_
    refine m_get_z (pc := 25) C q1758 dX6_steeped_25 ?_
    refine a_bipush (pc := 28) C dX6_steeped_28 bc_11 ?_
    refine m_iald (pc := 30) C (by decide) hw.1 dX6_steeped_30 ?_
    have hw := hw.2
    refine a_iadd (pc := 31) C dX6_steeped_31 ?_
    refine a_aload_0 (pc := 32) C dX6_steeped_32 ?_
    refine m_get_z (pc := 33) C q1758 dX6_steeped_33 ?_
    refine a_bipush (pc := 36) C dX6_steeped_36 bc_12 ?_
    refine m_iald (pc := 38) C (by decide) hw.1 dX6_steeped_38 ?_
    have hw := hw.2
    refine a_iadd (pc := 39) C dX6_steeped_39 ?_
    refine a_aload_0 (pc := 40) C dX6_steeped_40 ?_
    refine a_iconst (pc := 41) C dX6_steeped_41 ic_1 ?_
    refine m_callV1i (pc := 42) C hs (fun h n u hV => ct_X6_weightIn l G a _ _ _ hw h n u hV) (by decide) (by decide) rfl (lw_V q1902 q1904 qs45 q77 q1905) sg_X6_weightIn (Nat.le_of_ble_eq_true rfl) dX6_steeped_42 (fun v4 σ3 hw => ?_)
    refine a_iadd (pc := 45) C dX6_steeped_45 ?_
    refine a_aload_0 (pc := 46) C dX6_steeped_46 ?_
    refine a_iconst (pc := 47) C dX6_steeped_47 ic_2 ?_
    refine m_callV1i (pc := 48) C hs (fun h n u hV => ct_X6_weightIn l G a _ _ _ hw h n u hV) (by decide) (by decide) rfl (lw_V q1902 q1904 qs45 q77 q1905) sg_X6_weightIn (Nat.le_of_ble_eq_true rfl) dX6_steeped_48 (fun v6 σ5 hw => ?_)
    refine a_iadd (pc := 51) C dX6_steeped_51 ?_
    refine a_aload_0 (pc := 52) C dX6_steeped_52 ?_
    refine a_iconst (pc := 53) C dX6_steeped_53 ic_3 ?_
    refine m_callV1i (pc := 54) C hs (fun h n u hV => ct_X6_weightIn l G a _ _ _ hw h n u hV) (by decide) (by decide) rfl (lw_V q1902 q1904 qs45 q77 q1905) sg_X6_weightIn (Nat.le_of_ble_eq_true rfl) dX6_steeped_54 (fun v8 σ7 hw => ?_)
    refine a_iadd (pc := 57) C dX6_steeped_57 ?_
    refine a_aload_0 (pc := 58) C dX6_steeped_58 ?_
    refine a_iconst (pc := 59) C dX6_steeped_59 ic_4 ?_
    refine m_callV1i (pc := 60) C hs (fun h n u hV => ct_X6_weightIn l G a _ _ _ hw h n u hV) (by decide) (by decide) rfl (lw_V q1902 q1904 qs45 q77 q1905) sg_X6_weightIn (Nat.le_of_ble_eq_true rfl) dX6_steeped_60 (fun v10 σ9 hw => ?_)
    refine a_iadd (pc := 63) C dX6_steeped_63 ?_
    refine a_goto (pc := 64) C 74 dX6_steeped_64 (by decide) ?_
    exact a_iret C dX6_steeped_74 (fun h n u hV => ⟨⟨(_, _), rfl, hw, hV⟩, m_end hs hV⟩)
def wp_X6_malt (σ : MS) (Q : Int32 → MS → Prop) : Prop := (∀ σ1 : MS, σ1 = mU σ 5 3 0 → (vp_in 9 (mLen 0) ∧ (Q (σ1 0 (9 : Int32).toNatClampNeg) σ1)))
theorem sg_X6_malt : aSig yX6_malt 0 := by decide +kernel
set_option maxHeartbeats 4000000 in
theorem ct_X6_malt (l : Launch) (G : aG) (a : Nat)   (σ : MS) (Q : Int32 → MS → Prop) (hw : wp_X6_malt  σ Q) (h0 : AH) (n0 u0 : Nat) (hV : MV h0 a σ) : CT l yX6_malt (ws_ yX6_malt cX6_malt 1 (some .int)) 1 G [.ref a] h0 n0 u0 0 0 (m_pi Q h0 n0 u0 a) := by
  refine CT.intro [some (.ref a)] pn_RX6 rfl (Nat.le_of_ble_eq_true rfl) ?_
  intro p e s m args below meth c C hz hu
  have hs : s.heap.size = n0 ∧ slT s.heap = u0 := ⟨hz, hu⟩
  refine a_world (V1 := MW h0 n0 u0 a σ) (MW.start hV) ?_
  unfold wp_X6_malt at hw
  refine a_aload_0 (pc := 0) C dX6_malt_0 ?_
  refine a_iconst (pc := 1) C dX6_malt_1 ic_0 ?_
  refine m_put_thrown (pc := 2) C q1766 dX6_malt_2 (fun σ1 eσ1 => ?_)
  have hw := hw σ1 eσ1
  refine a_aload_0 (pc := 5) C dX6_malt_5 ?_
  refine m_get_z (pc := 6) C q1758 dX6_malt_6 ?_
  refine a_bipush (pc := 9) C dX6_malt_9 bc_9 ?_
  refine m_iald (pc := 11) C (by decide) hw.1 dX6_malt_11 ?_
  have hw := hw.2
  exact a_iret C dX6_malt_12 (fun h n u hV => ⟨⟨(_, _), rfl, hw, hV⟩, m_end hs hV⟩)
def wp_X6_culms (σ : MS) (Q : Int32 → MS → Prop) : Prop := (∀ σ1 : MS, σ1 = mU σ 5 3 0 → (vp_in 10 (mLen 0) ∧ (Q (σ1 0 (10 : Int32).toNatClampNeg) σ1)))
theorem sg_X6_culms : aSig yX6_culms 0 := by decide +kernel
set_option maxHeartbeats 4000000 in
theorem ct_X6_culms (l : Launch) (G : aG) (a : Nat)   (σ : MS) (Q : Int32 → MS → Prop) (hw : wp_X6_culms  σ Q) (h0 : AH) (n0 u0 : Nat) (hV : MV h0 a σ) : CT l yX6_culms (ws_ yX6_culms cX6_culms 1 (some .int)) 1 G [.ref a] h0 n0 u0 0 0 (m_pi Q h0 n0 u0 a) := by
  refine CT.intro [some (.ref a)] pn_RX6 rfl (Nat.le_of_ble_eq_true rfl) ?_
  intro p e s m args below meth c C hz hu
  have hs : s.heap.size = n0 ∧ slT s.heap = u0 := ⟨hz, hu⟩
  refine a_world (V1 := MW h0 n0 u0 a σ) (MW.start hV) ?_
  unfold wp_X6_culms at hw
  refine a_aload_0 (pc := 0) C dX6_culms_0 ?_
  refine a_iconst (pc := 1) C dX6_culms_1 ic_0 ?_
  refine m_put_thrown (pc := 2) C q1766 dX6_culms_2 (fun σ1 eσ1 => ?_)
  have hw := hw σ1 eσ1
  refine a_aload_0 (pc := 5) C dX6_culms_5 ?_
  refine m_get_z (pc := 6) C q1758 dX6_culms_6 ?_
  refine a_bipush (pc := 9) C dX6_culms_9 bc_10 ?_
  refine m_iald (pc := 11) C (by decide) hw.1 dX6_culms_11 ?_
  have hw := hw.2
  exact a_iret C dX6_culms_12 (fun h n u hV => ⟨⟨(_, _), rfl, hw, hV⟩, m_end hs hV⟩)
def wp_X6_spoilt (σ : MS) (Q : Int32 → MS → Prop) : Prop := (∀ σ1 : MS, σ1 = mU σ 5 3 0 → (vp_in 11 (mLen 0) ∧ (Q (σ1 0 (11 : Int32).toNatClampNeg) σ1)))
theorem sg_X6_spoilt : aSig yX6_spoilt 0 := by decide +kernel
set_option maxHeartbeats 4000000 in
theorem ct_X6_spoilt (l : Launch) (G : aG) (a : Nat)   (σ : MS) (Q : Int32 → MS → Prop) (hw : wp_X6_spoilt  σ Q) (h0 : AH) (n0 u0 : Nat) (hV : MV h0 a σ) : CT l yX6_spoilt (ws_ yX6_spoilt cX6_spoilt 1 (some .int)) 1 G [.ref a] h0 n0 u0 0 0 (m_pi Q h0 n0 u0 a) := by
  refine CT.intro [some (.ref a)] pn_RX6 rfl (Nat.le_of_ble_eq_true rfl) ?_
  intro p e s m args below meth c C hz hu
  have hs : s.heap.size = n0 ∧ slT s.heap = u0 := ⟨hz, hu⟩
  refine a_world (V1 := MW h0 n0 u0 a σ) (MW.start hV) ?_
  unfold wp_X6_spoilt at hw
  refine a_aload_0 (pc := 0) C dX6_spoilt_0 ?_
  refine a_iconst (pc := 1) C dX6_spoilt_1 ic_0 ?_
  refine m_put_thrown (pc := 2) C q1766 dX6_spoilt_2 (fun σ1 eσ1 => ?_)
  have hw := hw σ1 eσ1
  refine a_aload_0 (pc := 5) C dX6_spoilt_5 ?_
  refine m_get_z (pc := 6) C q1758 dX6_spoilt_6 ?_
  refine a_bipush (pc := 9) C dX6_spoilt_9 bc_11 ?_
  refine m_iald (pc := 11) C (by decide) hw.1 dX6_spoilt_11 ?_
  have hw := hw.2
  exact a_iret C dX6_spoilt_12 (fun h n u hV => ⟨⟨(_, _), rfl, hw, hV⟩, m_end hs hV⟩)
def wp_X6_breathed (σ : MS) (Q : Int32 → MS → Prop) : Prop := (∀ σ1 : MS, σ1 = mU σ 5 3 0 → (vp_in 12 (mLen 0) ∧ (Q (σ1 0 (12 : Int32).toNatClampNeg) σ1)))
theorem sg_X6_breathed : aSig yX6_breathed 0 := by decide +kernel
set_option maxHeartbeats 4000000 in
theorem ct_X6_breathed (l : Launch) (G : aG) (a : Nat)   (σ : MS) (Q : Int32 → MS → Prop) (hw : wp_X6_breathed  σ Q) (h0 : AH) (n0 u0 : Nat) (hV : MV h0 a σ) : CT l yX6_breathed (ws_ yX6_breathed cX6_breathed 1 (some .int)) 1 G [.ref a] h0 n0 u0 0 0 (m_pi Q h0 n0 u0 a) := by
  refine CT.intro [some (.ref a)] pn_RX6 rfl (Nat.le_of_ble_eq_true rfl) ?_
  intro p e s m args below meth c C hz hu
  have hs : s.heap.size = n0 ∧ slT s.heap = u0 := ⟨hz, hu⟩
  refine a_world (V1 := MW h0 n0 u0 a σ) (MW.start hV) ?_
  unfold wp_X6_breathed at hw
  refine a_aload_0 (pc := 0) C dX6_breathed_0 ?_
  refine a_iconst (pc := 1) C dX6_breathed_1 ic_0 ?_
  refine m_put_thrown (pc := 2) C q1766 dX6_breathed_2 (fun σ1 eσ1 => ?_)
  have hw := hw σ1 eσ1
  refine a_aload_0 (pc := 5) C dX6_breathed_5 ?_
  refine m_get_z (pc := 6) C q1758 dX6_breathed_6 ?_
  refine a_bipush (pc := 9) C dX6_breathed_9 bc_12 ?_
  refine m_iald (pc := 11) C (by decide) hw.1 dX6_breathed_11 ?_
  have hw := hw.2
  exact a_iret C dX6_breathed_12 (fun h n u hV => ⟨⟨(_, _), rfl, hw, hV⟩, m_end hs hV⟩)
def wp_X6_sprays (σ : MS) (Q : Int32 → MS → Prop) : Prop := (∀ σ1 : MS, σ1 = mU σ 5 3 0 → (vp_in 13 (mLen 0) ∧ (Q (σ1 0 (13 : Int32).toNatClampNeg) σ1)))
theorem sg_X6_sprays : aSig yX6_sprays 0 := by decide +kernel
set_option maxHeartbeats 4000000 in
theorem ct_X6_sprays (l : Launch) (G : aG) (a : Nat)   (σ : MS) (Q : Int32 → MS → Prop) (hw : wp_X6_sprays  σ Q) (h0 : AH) (n0 u0 : Nat) (hV : MV h0 a σ) : CT l yX6_sprays (ws_ yX6_sprays cX6_sprays 1 (some .int)) 1 G [.ref a] h0 n0 u0 0 0 (m_pi Q h0 n0 u0 a) := by
  refine CT.intro [some (.ref a)] pn_RX6 rfl (Nat.le_of_ble_eq_true rfl) ?_
  intro p e s m args below meth c C hz hu
  have hs : s.heap.size = n0 ∧ slT s.heap = u0 := ⟨hz, hu⟩
  refine a_world (V1 := MW h0 n0 u0 a σ) (MW.start hV) ?_
  unfold wp_X6_sprays at hw
  refine a_aload_0 (pc := 0) C dX6_sprays_0 ?_
  refine a_iconst (pc := 1) C dX6_sprays_1 ic_0 ?_
  refine m_put_thrown (pc := 2) C q1766 dX6_sprays_2 (fun σ1 eσ1 => ?_)
  have hw := hw σ1 eσ1
  refine a_aload_0 (pc := 5) C dX6_sprays_5 ?_
  refine m_get_z (pc := 6) C q1758 dX6_sprays_6 ?_
  refine a_bipush (pc := 9) C dX6_sprays_9 bc_13 ?_
  refine m_iald (pc := 11) C (by decide) hw.1 dX6_sprays_11 ?_
  have hw := hw.2
  exact a_iret C dX6_sprays_12 (fun h n u hV => ⟨⟨(_, _), rfl, hw, hV⟩, m_end hs hV⟩)
def wp_X6_meanGrowth_L15 (kx7 : Int32 → Int32 → MS → Prop) : Nat → Int32 → Int32 → MS → Prop
  | 0, _, _, _ => False
  | F + 1, x4, x5, σ6 => (vp_in 7 (mLen 0) ∧ ((((σ6 0 (7 : Int32).toNatClampNeg) ≤ x5) → (kx7 x4 x5 σ6)) ∧ ((¬ (σ6 0 (7 : Int32).toNatClampNeg) ≤ x5) → (wp_X6_of x5 0 σ6 (fun v14 σ13 => (jn (fun (x17 : Int32) (σ18 : MS) => (wp_X6_meanGrowth_L15 kx7 F (x4 + x17) (x5 + 1) σ18)) (fun kj16 => (((¬ v14 = 5) → (kj16 0 σ13)) ∧ ((v14 = 5) → (wp_X6_of x5 5 σ13 (fun v20 σ19 => (kj16 v20 σ19))))))))))))
def wp_X6_meanGrowth (σ : MS) (Q : UInt64 → MS → Prop) : Prop := (∀ σ1 : MS, σ1 = mU σ 5 3 0 → (wp_X6_countIn 5 σ1 (fun v3 σ2 => (jn (fun (x8 : Int32) (x9 : Int32) (σ10 : MS) => (((¬ v3 = 0) → (vf_n64 (FP.ddiv (FP.i2d x8) (FP.i2d v3)) ∧ (Q (FP.ddiv (FP.i2d x8) (FP.i2d v3)) σ10))) ∧ ((v3 = 0) → (Q (FP.dconst0) σ10)))) (fun kx7 => wp_X6_meanGrowth_L15 kx7 mF 0 0 σ2)))))
theorem sg_X6_meanGrowth : aSig yX6_meanGrowth 0 := by decide +kernel
set_option maxHeartbeats 4000000 in
theorem ct_X6_meanGrowth (l : Launch) (G : aG) (a : Nat)   (σ : MS) (Q : UInt64 → MS → Prop) (hw : wp_X6_meanGrowth  σ Q) (h0 : AH) (n0 u0 : Nat) (hV : MV h0 a σ) : CT l yX6_meanGrowth (ws_ yX6_meanGrowth cX6_meanGrowth 4 (some .double)) 3 G [.ref a] h0 n0 u0 0 0 (m_pd Q h0 n0 u0 a) := by
  refine CT.intro [some (.ref a), none, none, none] pn_RX6 rfl (Nat.le_of_ble_eq_true rfl) ?_
  intro p e s m args below meth c C hz hu
  have hs : s.heap.size = n0 ∧ slT s.heap = u0 := ⟨hz, hu⟩
  refine a_world (V1 := MW h0 n0 u0 a σ) (MW.start hV) ?_
  unfold wp_X6_meanGrowth at hw
  refine a_aload_0 (pc := 0) C dX6_meanGrowth_0 ?_
  refine a_iconst (pc := 1) C dX6_meanGrowth_1 ic_0 ?_
  refine m_put_thrown (pc := 2) C q1766 dX6_meanGrowth_2 (fun σ1 eσ1 => ?_)
  have hw := hw σ1 eσ1
  refine a_iconst (pc := 5) C dX6_meanGrowth_5 ic_0 ?_
  refine a_istore_1 (pc := 6) C dX6_meanGrowth_6 (by decide) rfl ?_
  refine a_aload_0 (pc := 7) C dX6_meanGrowth_7 ?_
  refine a_iconst (pc := 8) C dX6_meanGrowth_8 ic_5 ?_
  refine m_callV1i (pc := 9) C hs (fun h n u hV => ct_X6_countIn l G a _ _ _ hw h n u hV) (by decide) (by decide) rfl (lw_V q1848 q1850 qs36 q77 q1851) sg_X6_countIn (Nat.le_of_ble_eq_true rfl) dX6_meanGrowth_9 (fun v3 σ2 hw => ?_)
  refine a_istore_2 (pc := 12) C dX6_meanGrowth_12 (by decide) rfl ?_
  refine a_iconst (pc := 13) C dX6_meanGrowth_13 ic_0 ?_
  refine a_istore_3 (pc := 14) C dX6_meanGrowth_14 (by decide) rfl ?_
  refine jn_use hw (fun kx7 ekx7 hw => ?_)
  have hkx7 : ∀ (x8 : Int32) (x9 : Int32) (σ10 : MS), kx7 x8 x9 σ10 → AW G p l e (aRm 3 0 0) s m args below meth c (a_A h0 n0) 4 (MQ below (a_Qc G (m_pd Q h0 n0 u0 a) (a_A h0 n0)) args s 0 0 (a_A h0 n0)) (MW h0 n0 u0 a σ10) 55 [some (.ref a), some (.int x8), some (.int v3), some (.int x9)] [] := by
    intro x8 x9 σ10 hw
    rw [ekx7] at hw
    refine a_iload_2 (pc := 55) C dX6_meanGrowth_55 ?_
    refine a_if_ne (pc := 56) C 63 dX6_meanGrowth_56 (by decide) (fun c11 => ?_) (fun c11 => ?_)
    · have hw := hw.1 c11
      refine a_iload_1 (pc := 63) C dX6_meanGrowth_63 ?_
      refine a_i2d (pc := 64) C dX6_meanGrowth_64 ?_
      refine a_iload_2 (pc := 65) C dX6_meanGrowth_65 ?_
      refine a_i2d (pc := 66) C dX6_meanGrowth_66 ?_
      refine a_ddiv (pc := 67) C dX6_meanGrowth_67 hw.1 ?_
      have hw := hw.2
      exact a_dret C dX6_meanGrowth_68 (fun h n u hV => ⟨⟨(_, _), rfl, hw, hV⟩, m_end hs hV⟩)
    · have hw := hw.2 c11
      refine a_dconst0 (pc := 59) C dX6_meanGrowth_59 ?_
      refine a_goto (pc := 60) C 68 dX6_meanGrowth_60 (by decide) ?_
      exact a_dret C dX6_meanGrowth_68 (fun h n u hV => ⟨⟨(_, _), rfl, hw, hV⟩, m_end hs hV⟩)
  have lp15 : ∀ (F : Nat) (x4 : Int32) (x5 : Int32) (σ6 : MS), wp_X6_meanGrowth_L15 kx7 F x4 x5 σ6 → AW G p l e (aRm 3 0 0) s m args below meth c (a_A h0 n0) 4 (MQ below (a_Qc G (m_pd Q h0 n0 u0 a) (a_A h0 n0)) args s 0 0 (a_A h0 n0)) (MW h0 n0 u0 a σ6) 15 [some (.ref a), some (.int x4), some (.int v3), some (.int x5)] [] := by
    intro F
    induction F with
    | zero => intro x4 x5 σ6 hw; exact False.elim hw
    | succ F ih =>
      intro x4 x5 σ6 hw
      rw [wp_X6_meanGrowth_L15] at hw
      refine a_iload_3 (pc := 15) C dX6_meanGrowth_15 ?_
      refine a_aload_0 (pc := 16) C dX6_meanGrowth_16 ?_
      refine m_get_z (pc := 17) C q1758 dX6_meanGrowth_17 ?_
      refine a_bipush (pc := 20) C dX6_meanGrowth_20 bc_7 ?_
      refine m_iald (pc := 22) C (by decide) hw.1 dX6_meanGrowth_22 ?_
      have hw := hw.2
      refine a_icmp_ge (pc := 23) C 55 dX6_meanGrowth_23 (by decide) (fun c12 => ?_) (fun c12 => ?_)
      · have hw := hw.1 c12
        exact hkx7 _ _ _ hw
      · have hw := hw.2 c12
        refine a_iload_1 (pc := 26) C dX6_meanGrowth_26 ?_
        refine a_aload_0 (pc := 27) C dX6_meanGrowth_27 ?_
        refine a_iload_3 (pc := 28) C dX6_meanGrowth_28 ?_
        refine a_iconst (pc := 29) C dX6_meanGrowth_29 ic_0 ?_
        refine m_callV2i (pc := 30) C hs (fun h n u hV => ct_X6_of l G a _ _ _ _ hw h n u hV) (by decide) (by decide) rfl (lw_V q1844 q1846 qs35 q77 q1847) sg_X6_of (Nat.le_of_ble_eq_true rfl) dX6_meanGrowth_30 (fun v14 σ13 hw => ?_)
        refine a_iconst (pc := 33) C dX6_meanGrowth_33 ic_5 ?_
        refine jn_use hw (fun kj16 ekj16 hw => ?_)
        have hkj16 : ∀ (x17 : Int32) (σ18 : MS), kj16 x17 σ18 → AW G p l e (aRm 3 0 0) s m args below meth c (a_A h0 n0) 4 (MQ below (a_Qc G (m_pd Q h0 n0 u0 a) (a_A h0 n0)) args s 0 0 (a_A h0 n0)) (MW h0 n0 u0 a σ18) 47 [some (.ref a), some (.int x4), some (.int v3), some (.int x5)] [.int x17, .int x4] := by
          intro x17 σ18 hw
          rw [ekj16] at hw
          refine a_iadd (pc := 47) C dX6_meanGrowth_47 ?_
          refine a_istore_1 (pc := 48) C dX6_meanGrowth_48 (by decide) rfl ?_
          refine a_iinc_3 (pc := 49) (v := 1) C dX6_meanGrowth_49 (by decide) (by decide) rfl ?_
          refine a_goto (pc := 52) C 15 dX6_meanGrowth_52 (by decide) ?_
          exact ih _ _ _ hw
        refine a_icmp_ne (pc := 34) C 46 dX6_meanGrowth_34 (by decide) (fun c15 => ?_) (fun c15 => ?_)
        · have hw := hw.1 c15
          refine a_iconst (pc := 46) C dX6_meanGrowth_46 ic_0 ?_
          exact hkj16 _ _ hw
        · have hw := hw.2 c15
          refine a_aload_0 (pc := 37) C dX6_meanGrowth_37 ?_
          refine a_iload_3 (pc := 38) C dX6_meanGrowth_38 ?_
          refine a_iconst (pc := 39) C dX6_meanGrowth_39 ic_5 ?_
          refine m_callV2i (pc := 40) C hs (fun h n u hV => ct_X6_of l G a _ _ _ _ hw h n u hV) (by decide) (by decide) rfl (lw_V q1844 q1846 qs35 q77 q1847) sg_X6_of (Nat.le_of_ble_eq_true rfl) dX6_meanGrowth_40 (fun v20 σ19 hw => ?_)
          refine a_goto (pc := 43) C 47 dX6_meanGrowth_43 (by decide) ?_
          exact hkj16 _ _ hw
  exact lp15 mF _ _ _ hw
def wp_X6_meanHeat_L21 (kx9 : Int32 → Int32 → MS → Prop) : Nat → Int32 → Int32 → MS → Prop
  | 0, _, _, _ => False
  | F + 1, x6, x7, σ8 => (vp_in 7 (mLen 0) ∧ ((((σ8 0 (7 : Int32).toNatClampNeg) ≤ x7) → (kx9 x6 x7 σ8)) ∧ ((¬ (σ8 0 (7 : Int32).toNatClampNeg) ≤ x7) → (wp_X6_isGrowing x7 σ8 (fun v16 σ15 => (jn (fun (x19 : Int32) (σ20 : MS) => (wp_X6_meanHeat_L21 kx9 F (x6 + x19) (x7 + 1) σ20)) (fun kj18 => (((v16 = 0) → (kj18 0 σ15)) ∧ ((¬ v16 = 0) → (wp_X6_of x7 6 σ15 (fun v22 σ21 => (kj18 v22 σ21))))))))))))
def wp_X6_meanHeat (σ : MS) (Q : UInt64 → MS → Prop) : Prop := (∀ σ1 : MS, σ1 = mU σ 5 3 0 → (wp_X6_countIn 2 σ1 (fun v3 σ2 => (wp_X6_countIn 3 σ2 (fun v5 σ4 => (jn (fun (x10 : Int32) (x11 : Int32) (σ12 : MS) => (((¬ (v3 + v5) = 0) → (vf_n64 (FP.ddiv (FP.i2d x10) (FP.i2d (v3 + v5))) ∧ (Q (FP.ddiv (FP.i2d x10) (FP.i2d (v3 + v5))) σ12))) ∧ (((v3 + v5) = 0) → (Q (FP.dconst0) σ12)))) (fun kx9 => wp_X6_meanHeat_L21 kx9 mF 0 0 σ4)))))))
theorem sg_X6_meanHeat : aSig yX6_meanHeat 0 := by decide +kernel
set_option maxHeartbeats 4000000 in
theorem ct_X6_meanHeat (l : Launch) (G : aG) (a : Nat)   (σ : MS) (Q : UInt64 → MS → Prop) (hw : wp_X6_meanHeat  σ Q) (h0 : AH) (n0 u0 : Nat) (hV : MV h0 a σ) : CT l yX6_meanHeat (ws_ yX6_meanHeat cX6_meanHeat 4 (some .double)) 3 G [.ref a] h0 n0 u0 0 0 (m_pd Q h0 n0 u0 a) := by
  refine CT.intro [some (.ref a), none, none, none] pn_RX6 rfl (Nat.le_of_ble_eq_true rfl) ?_
  intro p e s m args below meth c C hz hu
  have hs : s.heap.size = n0 ∧ slT s.heap = u0 := ⟨hz, hu⟩
  refine a_world (V1 := MW h0 n0 u0 a σ) (MW.start hV) ?_
  unfold wp_X6_meanHeat at hw
  refine a_aload_0 (pc := 0) C dX6_meanHeat_0 ?_
  refine a_iconst (pc := 1) C dX6_meanHeat_1 ic_0 ?_
  refine m_put_thrown (pc := 2) C q1766 dX6_meanHeat_2 (fun σ1 eσ1 => ?_)
  have hw := hw σ1 eσ1
  refine a_iconst (pc := 5) C dX6_meanHeat_5 ic_0 ?_
  refine a_istore_1 (pc := 6) C dX6_meanHeat_6 (by decide) rfl ?_
  refine a_aload_0 (pc := 7) C dX6_meanHeat_7 ?_
  refine a_iconst (pc := 8) C dX6_meanHeat_8 ic_2 ?_
  refine m_callV1i (pc := 9) C hs (fun h n u hV => ct_X6_countIn l G a _ _ _ hw h n u hV) (by decide) (by decide) rfl (lw_V q1848 q1850 qs36 q77 q1851) sg_X6_countIn (Nat.le_of_ble_eq_true rfl) dX6_meanHeat_9 (fun v3 σ2 hw => ?_)
  refine a_aload_0 (pc := 12) C dX6_meanHeat_12 ?_
  refine a_iconst (pc := 13) C dX6_meanHeat_13 ic_3 ?_
  refine m_callV1i (pc := 14) C hs (fun h n u hV => ct_X6_countIn l G a _ _ _ hw h n u hV) (by decide) (by decide) rfl (lw_V q1848 q1850 qs36 q77 q1851) sg_X6_countIn (Nat.le_of_ble_eq_true rfl) dX6_meanHeat_14 (fun v5 σ4 hw => ?_)
  refine a_iadd (pc := 17) C dX6_meanHeat_17 ?_
  refine a_istore_2 (pc := 18) C dX6_meanHeat_18 (by decide) rfl ?_
  refine a_iconst (pc := 19) C dX6_meanHeat_19 ic_0 ?_
  refine a_istore_3 (pc := 20) C dX6_meanHeat_20 (by decide) rfl ?_
  refine jn_use hw (fun kx9 ekx9 hw => ?_)
  have hkx9 : ∀ (x10 : Int32) (x11 : Int32) (σ12 : MS), kx9 x10 x11 σ12 → AW G p l e (aRm 3 0 0) s m args below meth c (a_A h0 n0) 4 (MQ below (a_Qc G (m_pd Q h0 n0 u0 a) (a_A h0 n0)) args s 0 0 (a_A h0 n0)) (MW h0 n0 u0 a σ12) 60 [some (.ref a), some (.int x10), some (.int (v3 + v5)), some (.int x11)] [] := by
    intro x10 x11 σ12 hw
    rw [ekx9] at hw
    refine a_iload_2 (pc := 60) C dX6_meanHeat_60 ?_
    refine a_if_ne (pc := 61) C 68 dX6_meanHeat_61 (by decide) (fun c13 => ?_) (fun c13 => ?_)
    · have hw := hw.1 c13
      refine a_iload_1 (pc := 68) C dX6_meanHeat_68 ?_
      refine a_i2d (pc := 69) C dX6_meanHeat_69 ?_
      refine a_iload_2 (pc := 70) C dX6_meanHeat_70 ?_
      refine a_i2d (pc := 71) C dX6_meanHeat_71 ?_
      refine a_ddiv (pc := 72) C dX6_meanHeat_72 hw.1 ?_
      have hw := hw.2
      exact a_dret C dX6_meanHeat_73 (fun h n u hV => ⟨⟨(_, _), rfl, hw, hV⟩, m_end hs hV⟩)
    · have hw := hw.2 c13
      refine a_dconst0 (pc := 64) C dX6_meanHeat_64 ?_
      refine a_goto (pc := 65) C 73 dX6_meanHeat_65 (by decide) ?_
      exact a_dret C dX6_meanHeat_73 (fun h n u hV => ⟨⟨(_, _), rfl, hw, hV⟩, m_end hs hV⟩)
  have lp21 : ∀ (F : Nat) (x6 : Int32) (x7 : Int32) (σ8 : MS), wp_X6_meanHeat_L21 kx9 F x6 x7 σ8 → AW G p l e (aRm 3 0 0) s m args below meth c (a_A h0 n0) 4 (MQ below (a_Qc G (m_pd Q h0 n0 u0 a) (a_A h0 n0)) args s 0 0 (a_A h0 n0)) (MW h0 n0 u0 a σ8) 21 [some (.ref a), some (.int x6), some (.int (v3 + v5)), some (.int x7)] [] := by
    intro F
    induction F with
    | zero => intro x6 x7 σ8 hw; exact False.elim hw
    | succ F ih =>
      intro x6 x7 σ8 hw
      rw [wp_X6_meanHeat_L21] at hw
      refine a_iload_3 (pc := 21) C dX6_meanHeat_21 ?_
      refine a_aload_0 (pc := 22) C dX6_meanHeat_22 ?_
      refine m_get_z (pc := 23) C q1758 dX6_meanHeat_23 ?_
      refine a_bipush (pc := 26) C dX6_meanHeat_26 bc_7 ?_
      refine m_iald (pc := 28) C (by decide) hw.1 dX6_meanHeat_28 ?_
      have hw := hw.2
      refine a_icmp_ge (pc := 29) C 60 dX6_meanHeat_29 (by decide) (fun c14 => ?_) (fun c14 => ?_)
      · have hw := hw.1 c14
        exact hkx9 _ _ _ hw
      · have hw := hw.2 c14
        refine a_iload_1 (pc := 32) C dX6_meanHeat_32 ?_
        refine a_aload_0 (pc := 33) C dX6_meanHeat_33 ?_
        refine a_iload_3 (pc := 34) C dX6_meanHeat_34 ?_
        refine m_callV1i (pc := 35) C hs (fun h n u hV => ct_X6_isGrowing l G a _ _ _ hw h n u hV) (by decide) (by decide) rfl (lw_V q1878 q1880 qs41 q77 q1881) sg_X6_isGrowing (Nat.le_of_ble_eq_true rfl) dX6_meanHeat_35 (fun v16 σ15 hw => ?_)
        refine jn_use hw (fun kj18 ekj18 hw => ?_)
        have hkj18 : ∀ (x19 : Int32) (σ20 : MS), kj18 x19 σ20 → AW G p l e (aRm 3 0 0) s m args below meth c (a_A h0 n0) 4 (MQ below (a_Qc G (m_pd Q h0 n0 u0 a) (a_A h0 n0)) args s 0 0 (a_A h0 n0)) (MW h0 n0 u0 a σ20) 52 [some (.ref a), some (.int x6), some (.int (v3 + v5)), some (.int x7)] [.int x19, .int x6] := by
          intro x19 σ20 hw
          rw [ekj18] at hw
          refine a_iadd (pc := 52) C dX6_meanHeat_52 ?_
          refine a_istore_1 (pc := 53) C dX6_meanHeat_53 (by decide) rfl ?_
          refine a_iinc_3 (pc := 54) (v := 1) C dX6_meanHeat_54 (by decide) (by decide) rfl ?_
          refine a_goto (pc := 57) C 21 dX6_meanHeat_57 (by decide) ?_
          exact ih _ _ _ hw
        refine a_if_eq (pc := 38) C 51 dX6_meanHeat_38 (by decide) (fun c17 => ?_) (fun c17 => ?_)
        · have hw := hw.1 c17
          refine a_iconst (pc := 51) C dX6_meanHeat_51 ic_0 ?_
          exact hkj18 _ _ hw
        · have hw := hw.2 c17
          refine a_aload_0 (pc := 41) C dX6_meanHeat_41 ?_
          refine a_iload_3 (pc := 42) C dX6_meanHeat_42 ?_
          refine a_bipush (pc := 43) C dX6_meanHeat_43 bc_6 ?_
          refine m_callV2i (pc := 45) C hs (fun h n u hV => ct_X6_of l G a _ _ _ _ hw h n u hV) (by decide) (by decide) rfl (lw_V q1844 q1846 qs35 q77 q1847) sg_X6_of (Nat.le_of_ble_eq_true rfl) dX6_meanHeat_45 (fun v22 σ21 hw => ?_)
          refine a_goto (pc := 48) C 52 dX6_meanHeat_48 (by decide) ?_
          exact hkj18 _ _ hw
  exact lp21 mF _ _ _ hw
