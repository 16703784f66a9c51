set_option maxRecDepth 100000
/-! THE MODEL's METHODS, 1: what a run of each needs (wp_), and its contract (ct_); by program -/
theorem pn_RX6 : plainName RX6 = true := by decide
theorem m_end {h0 : AH} {n0 u0 a : Nat} {σ : MS} {h : AH} {n u : Nat} {s : State} (hs : s.heap.size = n0 ∧ slT s.heap = u0) (hV : MW h0 n0 u0 a σ h n u) : n ≤ s.heap.size + 0 ∧ u ≤ slT s.heap + 0 := by
  obtain ⟨h1, h2, -⟩ := hV
  omega
theorem s_end {h0 : AH} {n0 u0 : Nat} {h : AH} {n u : Nat} {s : State} (hs : s.heap.size = n0 ∧ slT s.heap = u0) (hV : aIs h0 n0 u0 h n u) : n ≤ s.heap.size + 0 ∧ u ≤ slT s.heap + 0 := by
  obtain ⟨-, h1, h2⟩ := hV
  omega
def wp_X6_thrown (σ : MS) (Q : Int32 → MS → Prop) : Prop := (Q (σ 5 3) σ)
theorem sg_X6_thrown : aSig yX6_thrown 0 := by decide +kernel
set_option maxHeartbeats 4000000 in
theorem ct_X6_thrown (l : Launch) (G : aG) (a : Nat)   (σ : MS) (Q : Int32 → MS → Prop) (hw : wp_X6_thrown  σ Q) (h0 : AH) (n0 u0 : Nat) (hV : MV h0 a σ) : CT l yX6_thrown (ws_ yX6_thrown cX6_thrown 1 (some .int)) 1 G [.ref a] h0 n0 u0 0 0 (m_pi Q h0 n0 u0 a) := by
  refine CT.intro [some (.ref a)] pn_RX6 rfl (Nat.le_of_ble_eq_true rfl) ?_
  intro p e s m args below meth c C hz hu
  have hs : s.heap.size = n0 ∧ slT s.heap = u0 := ⟨hz, hu⟩
  refine a_world (V1 := MW h0 n0 u0 a σ) (MW.start hV) ?_
  unfold wp_X6_thrown at hw
  refine a_aload_0 (pc := 0) C dX6_thrown_0 ?_
  refine m_get_thrown (pc := 1) C q1766 dX6_thrown_1 ?_
  exact a_iret C dX6_thrown_4 (fun h n u hV => ⟨⟨(_, _), rfl, hw, hV⟩, m_end hs hV⟩)
def wp_X6_goes (p1 : Int32) (p2 : Int32) (σ : MS) (Q : Int32 → MS → Prop) : Prop := (jn (fun (x3 : Int32) => (∀ σ4 : MS, σ4 = mU σ 5 3 x3 → (((¬ (σ4 5 3) = 0) → (Q 0 σ4)) ∧ (((σ4 5 3) = 0) → (Q 1 σ4))))) (fun kj2 => (((¬ p1 = 0) → (((¬ p2 = 0) → (kj2 0)) ∧ ((p2 = 0) → (kj2 2)))) ∧ ((p1 = 0) → (kj2 1)))))
theorem sg_X6_goes : aSig yX6_goes 2 := by decide +kernel
set_option maxHeartbeats 4000000 in
theorem ct_X6_goes (l : Launch) (G : aG) (a : Nat) (p1 : Int32) (p2 : Int32)  (σ : MS) (Q : Int32 → MS → Prop) (hw : wp_X6_goes p1 p2 σ Q) (h0 : AH) (n0 u0 : Nat) (hV : MV h0 a σ) : CT l yX6_goes (ws_ yX6_goes cX6_goes 3 (some .boolean)) 1 G [.ref a, .int p1, .int p2] h0 n0 u0 0 0 (m_pi Q h0 n0 u0 a) := by
  refine CT.intro [some (.ref a), some (.int p1), some (.int p2)] pn_RX6 rfl (Nat.le_of_ble_eq_true rfl) ?_
  intro p e s m args below meth c C hz hu
  have hs : s.heap.size = n0 ∧ slT s.heap = u0 := ⟨hz, hu⟩
  refine a_world (V1 := MW h0 n0 u0 a σ) (MW.start hV) ?_
  unfold wp_X6_goes at hw
  refine a_aload_0 (pc := 0) C dX6_goes_0 ?_
  refine a_iload_1 (pc := 1) C dX6_goes_1 ?_
  refine jn_use hw (fun kj2 ekj2 hw => ?_)
  have hkj2 : ∀ (x3 : Int32), kj2 x3 → AW G p l e (aRm 1 0 0) s m args below meth c (a_A h0 n0) 3 (MQ below (a_Qc G (m_pi Q h0 n0 u0 a) (a_A h0 n0)) args s 0 0 (a_A h0 n0)) (MW h0 n0 u0 a σ) 18 [some (.ref a), some (.int p1), some (.int p2)] [.int x3, .ref a] := by
    intro x3 hw
    rw [ekj2] at hw
    refine m_put_thrown (pc := 18) C q1766 dX6_goes_18 (fun σ4 eσ4 => ?_)
    have hw := hw σ4 eσ4
    refine a_aload_0 (pc := 21) C dX6_goes_21 ?_
    refine m_get_thrown (pc := 22) C q1766 dX6_goes_22 ?_
    refine a_if_ne (pc := 25) C 32 dX6_goes_25 (by decide) (fun c5 => ?_) (fun c5 => ?_)
    · have hw := hw.1 c5
      refine a_iconst (pc := 32) C dX6_goes_32 ic_0 ?_
      exact a_zret rfl C dX6_goes_33 (fun h n u hV => ⟨⟨(_, _), rfl, hw, hV⟩, m_end hs hV⟩)
    · have hw := hw.2 c5
      refine a_iconst (pc := 28) C dX6_goes_28 ic_1 ?_
      refine a_goto (pc := 29) C 33 dX6_goes_29 (by decide) ?_
      exact a_zret rfl C dX6_goes_33 (fun h n u hV => ⟨⟨(_, _), rfl, hw, hV⟩, m_end hs hV⟩)
  refine a_if_ne (pc := 2) C 9 dX6_goes_2 (by decide) (fun c1 => ?_) (fun c1 => ?_)
  · have hw := hw.1 c1
    refine a_iload_2 (pc := 9) C dX6_goes_9 ?_
    refine a_if_ne (pc := 10) C 17 dX6_goes_10 (by decide) (fun c6 => ?_) (fun c6 => ?_)
    · have hw := hw.1 c6
      refine a_iconst (pc := 17) C dX6_goes_17 ic_0 ?_
      exact hkj2 _ hw
    · have hw := hw.2 c6
      refine a_iconst (pc := 13) C dX6_goes_13 ic_2 ?_
      refine a_goto (pc := 14) C 18 dX6_goes_14 (by decide) ?_
      exact hkj2 _ hw
  · have hw := hw.2 c1
    refine a_iconst (pc := 5) C dX6_goes_5 ic_1 ?_
    refine a_goto (pc := 6) C 18 dX6_goes_6 (by decide) ?_
    exact hkj2 _ hw
def wp_X6_copyState_L3 (kx3 : Int32 → MS → Prop) (p2 : Int32) (p1 : Nat) (p4 : Int32) (p3 : Nat) : Nat → Int32 → MS → Prop
  | 0, _, _ => False
  | F + 1, x1, σ2 => (((153 ≤ x1) → (kx3 x1 σ2)) ∧ ((¬ 153 ≤ x1) → (vp_in (p2 + x1) (mLen p1) ∧ (vp_in (p4 + x1) (mLen p3) ∧ ∀ σ7 : MS, σ7 = mU σ2 p3 (p4 + x1).toNatClampNeg (σ2 p1 (p2 + x1).toNatClampNeg) → (wp_X6_copyState_L3 kx3 p2 p1 p4 p3 F (x1 + 1) σ7)))))
def wp_X6_copyState (p1 : Nat) (p2 : Int32) (p3 : Nat) (p4 : Int32) (σ : MS) (Q : MS → Prop) : Prop := (jn (fun (x4 : Int32) (σ5 : MS) => (Q σ5)) (fun kx3 => wp_X6_copyState_L3 kx3 p2 p1 p4 p3 mF 0 σ))
theorem sg_X6_copyState : aSig yX6_copyState 4 := by decide +kernel
set_option maxHeartbeats 4000000 in
theorem ct_X6_copyState (l : Launch) (G : aG) (a : Nat) (p1 : Nat) (p2 : Int32) (p3 : Nat) (p4 : Int32) (hbp1 : p1 < 5) (hbp3 : p3 < 5) (σ : MS) (Q : MS → Prop) (hw : wp_X6_copyState p1 p2 p3 p4 σ Q) (h0 : AH) (n0 u0 : Nat) (hV : MV h0 a σ) : CT l yX6_copyState (ws_ yX6_copyState cX6_copyState 5 none) 1 G [.ref (a + 1 + p1), .int p2, .ref (a + 1 + p3), .int p4] h0 n0 u0 0 0 (m_pv Q h0 n0 u0 a) := by
  refine CT.intro [some (.ref (a + 1 + p1)), some (.int p2), some (.ref (a + 1 + p3)), some (.int p4), none] pn_RX6 rfl (Nat.le_of_ble_eq_true rfl) ?_
  intro p e s m args below meth c C hz hu
  have hs : s.heap.size = n0 ∧ slT s.heap = u0 := ⟨hz, hu⟩
  refine a_world (V1 := MW h0 n0 u0 a σ) (MW.start hV) ?_
  unfold wp_X6_copyState at hw
  refine a_iconst (pc := 0) C dX6_copyState_0 ic_0 ?_
  refine a_istore_4 (pc := 1) C dX6_copyState_1 (by decide) rfl ?_
  refine jn_use hw (fun kx3 ekx3 hw => ?_)
  have hkx3 : ∀ (x4 : Int32) (σ5 : MS), kx3 x4 σ5 → AW G p l e (aRm 1 0 0) s m args below meth c (a_A h0 n0) 5 (MQ below (a_Qc G (m_pv Q h0 n0 u0 a) (a_A h0 n0)) args s 0 0 (a_A h0 n0)) (MW h0 n0 u0 a σ5) 29 [some (.ref (a + 1 + p1)), some (.int p2), some (.ref (a + 1 + p3)), some (.int p4), some (.int x4)] [] := by
    intro x4 σ5 hw
    rw [ekx3] at hw
    exact a_vret C dX6_copyState_29 (fun h n u hV => ⟨⟨_, rfl, hw, hV⟩, m_end hs hV⟩)
  have lp3 : ∀ (F : Nat) (x1 : Int32) (σ2 : MS), wp_X6_copyState_L3 kx3 p2 p1 p4 p3 F x1 σ2 → AW G p l e (aRm 1 0 0) s m args below meth c (a_A h0 n0) 5 (MQ below (a_Qc G (m_pv Q h0 n0 u0 a) (a_A h0 n0)) args s 0 0 (a_A h0 n0)) (MW h0 n0 u0 a σ2) 3 [some (.ref (a + 1 + p1)), some (.int p2), some (.ref (a + 1 + p3)), some (.int p4), some (.int x1)] [] := by
    intro F
    induction F with
    | zero => intro x1 σ2 hw; exact False.elim hw
    | succ F ih =>
      intro x1 σ2 hw
      rw [wp_X6_copyState_L3] at hw
      refine a_iload_4 (pc := 3) C dX6_copyState_3 ?_
      refine a_sipush (pc := 5) C dX6_copyState_5 sc_153 ?_
      refine a_icmp_ge (pc := 8) C 29 dX6_copyState_8 (by decide) (fun c6 => ?_) (fun c6 => ?_)
      · have hw := hw.1 c6
        exact hkx3 _ _ hw
      · have hw := hw.2 c6
        refine a_aload_2 (pc := 11) C dX6_copyState_11 ?_
        refine a_iload_3 (pc := 12) C dX6_copyState_12 ?_
        refine a_iload_4 (pc := 13) C dX6_copyState_13 ?_
        refine a_iadd (pc := 15) C dX6_copyState_15 ?_
        refine a_aload_0 (pc := 16) C dX6_copyState_16 ?_
        refine a_iload_1 (pc := 17) C dX6_copyState_17 ?_
        refine a_iload_4 (pc := 18) C dX6_copyState_18 ?_
        refine a_iadd (pc := 20) C dX6_copyState_20 ?_
        refine m_iald (pc := 21) C hbp1 hw.1 dX6_copyState_21 ?_
        have hw := hw.2
        refine m_iast (pc := 22) C hbp3 hw.1 dX6_copyState_22 (fun σ7 eσ7 => ?_)
        have hw := hw.2 σ7 eσ7
        refine a_iinc_4 (pc := 23) (v := 1) C dX6_copyState_23 (by decide) (by decide) rfl ?_
        refine a_goto (pc := 26) C 3 dX6_copyState_26 (by decide) ?_
        exact ih _ _ hw
  exact lp3 mF _ _ hw
def wp_X6_undo (σ : MS) (Q : Int32 → MS → Prop) : Prop := (jn (fun (x3 : Int32) => (wp_X6_goes x3 1 σ (fun v5 σ4 => (((¬ v5 = 0) → (∀ σ7 : MS, σ7 = mU σ4 5 0 ((σ4 5 0) - 1) → (wp_X6_copyState 2 (153 * (σ7 5 0)) 0 0 σ7 (fun σ8 => (Q (σ8 5 0) σ8))))) ∧ ((v5 = 0) → (Q 0 σ4)))))) (fun kj2 => ((((σ 5 0) ≤ 0) → (kj2 0)) ∧ ((¬ (σ 5 0) ≤ 0) → (kj2 1)))))
theorem sg_X6_undo : aSig yX6_undo 0 := by decide +kernel
set_option maxHeartbeats 4000000 in
theorem ct_X6_undo (l : Launch) (G : aG) (a : Nat)   (σ : MS) (Q : Int32 → MS → Prop) (hw : wp_X6_undo  σ Q) (h0 : AH) (n0 u0 : Nat) (hV : MV h0 a σ) : CT l yX6_undo (ws_ yX6_undo cX6_undo 1 (some .int)) 2 G [.ref a] h0 n0 u0 0 0 (m_pi Q h0 n0 u0 a) := by
  refine CT.intro [some (.ref a)] pn_RX6 rfl (Nat.le_of_ble_eq_true rfl) ?_
  intro p e s m args below meth c C hz hu
  have hs : s.heap.size = n0 ∧ slT s.heap = u0 := ⟨hz, hu⟩
  refine a_world (V1 := MW h0 n0 u0 a σ) (MW.start hV) ?_
  unfold wp_X6_undo at hw
  refine a_aload_0 (pc := 0) C dX6_undo_0 ?_
  refine a_aload_0 (pc := 1) C dX6_undo_1 ?_
  refine m_get_states (pc := 2) C q1761 dX6_undo_2 ?_
  refine jn_use hw (fun kj2 ekj2 hw => ?_)
  have hkj2 : ∀ (x3 : Int32), kj2 x3 → AW G p l e (aRm 2 0 0) s m args below meth c (a_A h0 n0) 1 (MQ below (a_Qc G (m_pi Q h0 n0 u0 a) (a_A h0 n0)) args s 0 0 (a_A h0 n0)) (MW h0 n0 u0 a σ) 13 [some (.ref a)] [.int x3, .ref a] := by
    intro x3 hw
    rw [ekj2] at hw
    refine a_iconst (pc := 13) C dX6_undo_13 ic_1 ?_
    refine m_callV2i (pc := 14) C hs (fun h n u hV => ct_X6_goes l G a _ _ _ _ hw h n u hV) (by decide) (by decide) rfl (lw_V q1794 q1796 qs29 q77 q1797) sg_X6_goes (Nat.le_of_ble_eq_true rfl) dX6_undo_14 (fun v5 σ4 hw => ?_)
    refine a_if_ne (pc := 17) C 22 dX6_undo_17 (by decide) (fun c6 => ?_) (fun c6 => ?_)
    · have hw := hw.1 c6
      refine a_aload_0 (pc := 22) C dX6_undo_22 ?_
      refine a_dup (pc := 23) C dX6_undo_23 rfl ?_
      refine m_get_states (pc := 24) C q1761 dX6_undo_24 ?_
      refine a_iconst (pc := 27) C dX6_undo_27 ic_1 ?_
      refine a_isub (pc := 28) C dX6_undo_28 ?_
      refine m_put_states (pc := 29) C q1761 dX6_undo_29 (fun σ7 eσ7 => ?_)
      have hw := hw σ7 eσ7
      refine a_aload_0 (pc := 32) C dX6_undo_32 ?_
      refine m_get_past (pc := 33) C q1760 dX6_undo_33 ?_
      refine a_sipush (pc := 36) C dX6_undo_36 sc_153 ?_
      refine a_aload_0 (pc := 39) C dX6_undo_39 ?_
      refine m_get_states (pc := 40) C q1761 dX6_undo_40 ?_
      refine a_imul (pc := 43) C dX6_undo_43 ?_
      refine a_aload_0 (pc := 44) C dX6_undo_44 ?_
      refine m_get_z (pc := 45) C q1758 dX6_undo_45 ?_
      refine a_iconst (pc := 48) C dX6_undo_48 ic_0 ?_
      refine m_callS4w (pc := 49) C hs (fun h n u hV => ct_X6_copyState l G a _ _ _ _ (by decide) (by decide) _ _ hw h n u hV) (by decide) (by decide) (lw_S q1798 q1799 q77 q1800) sg_X6_copyState (Nat.le_of_ble_eq_true rfl) dX6_undo_49 (fun σ8 hw => ?_)
      refine a_aload_0 (pc := 52) C dX6_undo_52 ?_
      refine m_get_states (pc := 53) C q1761 dX6_undo_53 ?_
      exact a_iret C dX6_undo_56 (fun h n u hV => ⟨⟨(_, _), rfl, hw, hV⟩, m_end hs hV⟩)
    · have hw := hw.2 c6
      refine a_iconst (pc := 20) C dX6_undo_20 ic_0 ?_
      exact a_iret C dX6_undo_21 (fun h n u hV => ⟨⟨(_, _), rfl, hw, hV⟩, m_end hs hV⟩)
  refine a_if_le (pc := 5) C 12 dX6_undo_5 (by decide) (fun c1 => ?_) (fun c1 => ?_)
  · have hw := hw.1 c1
    refine a_iconst (pc := 12) C dX6_undo_12 ic_0 ?_
    exact hkj2 _ hw
  · have hw := hw.2 c1
    refine a_iconst (pc := 8) C dX6_undo_8 ic_1 ?_
    refine a_goto (pc := 9) C 13 dX6_undo_9 (by decide) ?_
    exact hkj2 _ hw
def wp_X6_savedStates (σ : MS) (Q : Int32 → MS → Prop) : Prop := (∀ σ1 : MS, σ1 = mU σ 5 3 0 → (Q (σ1 5 0) σ1))
theorem sg_X6_savedStates : aSig yX6_savedStates 0 := by decide +kernel
set_option maxHeartbeats 4000000 in
theorem ct_X6_savedStates (l : Launch) (G : aG) (a : Nat)   (σ : MS) (Q : Int32 → MS → Prop) (hw : wp_X6_savedStates  σ Q) (h0 : AH) (n0 u0 : Nat) (hV : MV h0 a σ) : CT l yX6_savedStates (ws_ yX6_savedStates cX6_savedStates 1 (some .int)) 1 G [.ref a] h0 n0 u0 0 0 (m_pi Q h0 n0 u0 a) := by
  refine CT.intro [some (.ref a)] pn_RX6 rfl (Nat.le_of_ble_eq_true rfl) ?_
  intro p e s m args below meth c C hz hu
  have hs : s.heap.size = n0 ∧ slT s.heap = u0 := ⟨hz, hu⟩
  refine a_world (V1 := MW h0 n0 u0 a σ) (MW.start hV) ?_
  unfold wp_X6_savedStates at hw
  refine a_aload_0 (pc := 0) C dX6_savedStates_0 ?_
  refine a_iconst (pc := 1) C dX6_savedStates_1 ic_0 ?_
  refine m_put_thrown (pc := 2) C q1766 dX6_savedStates_2 (fun σ1 eσ1 => ?_)
  have hw := hw σ1 eσ1
  refine a_aload_0 (pc := 5) C dX6_savedStates_5 ?_
  refine m_get_states (pc := 6) C q1761 dX6_savedStates_6 ?_
  exact a_iret C dX6_savedStates_9 (fun h n u hV => ⟨⟨(_, _), rfl, hw, hV⟩, m_end hs hV⟩)
def wp_X6_keep (σ : MS) (Q : Int32 → MS → Prop) : Prop := (∀ σ1 : MS, σ1 = mU σ 5 3 0 → (wp_X6_copyState 0 0 3 0 σ1 (fun σ2 => (∀ σ3 : MS, σ3 = mU σ2 5 1 1 → (vp_in 0 (mLen 0) ∧ (Q (σ3 0 (0 : Int32).toNatClampNeg) σ3))))))
theorem sg_X6_keep : aSig yX6_keep 0 := by decide +kernel
set_option maxHeartbeats 4000000 in
theorem ct_X6_keep (l : Launch) (G : aG) (a : Nat)   (σ : MS) (Q : Int32 → MS → Prop) (hw : wp_X6_keep  σ Q) (h0 : AH) (n0 u0 : Nat) (hV : MV h0 a σ) : CT l yX6_keep (ws_ yX6_keep cX6_keep 1 (some .int)) 2 G [.ref a] h0 n0 u0 0 0 (m_pi Q h0 n0 u0 a) := by
  refine CT.intro [some (.ref a)] pn_RX6 rfl (Nat.le_of_ble_eq_true rfl) ?_
  intro p e s m args below meth c C hz hu
  have hs : s.heap.size = n0 ∧ slT s.heap = u0 := ⟨hz, hu⟩
  refine a_world (V1 := MW h0 n0 u0 a σ) (MW.start hV) ?_
  unfold wp_X6_keep at hw
  refine a_aload_0 (pc := 0) C dX6_keep_0 ?_
  refine a_iconst (pc := 1) C dX6_keep_1 ic_0 ?_
  refine m_put_thrown (pc := 2) C q1766 dX6_keep_2 (fun σ1 eσ1 => ?_)
  have hw := hw σ1 eσ1
  refine a_aload_0 (pc := 5) C dX6_keep_5 ?_
  refine m_get_z (pc := 6) C q1758 dX6_keep_6 ?_
  refine a_iconst (pc := 9) C dX6_keep_9 ic_0 ?_
  refine a_aload_0 (pc := 10) C dX6_keep_10 ?_
  refine m_get_kept (pc := 11) C q1762 dX6_keep_11 ?_
  refine a_iconst (pc := 14) C dX6_keep_14 ic_0 ?_
  refine m_callS4w (pc := 15) C hs (fun h n u hV => ct_X6_copyState l G a _ _ _ _ (by decide) (by decide) _ _ hw h n u hV) (by decide) (by decide) (lw_S q1798 q1799 q77 q1800) sg_X6_copyState (Nat.le_of_ble_eq_true rfl) dX6_keep_15 (fun σ2 hw => ?_)
  refine a_aload_0 (pc := 18) C dX6_keep_18 ?_
  refine a_iconst (pc := 19) C dX6_keep_19 ic_1 ?_
  refine m_put_isKept (pc := 20) C (by decide) q1763 dX6_keep_20 (fun σ3 eσ3 => ?_)
  have hw := hw σ3 eσ3
  refine a_aload_0 (pc := 23) C dX6_keep_23 ?_
  refine m_get_z (pc := 24) C q1758 dX6_keep_24 ?_
  refine a_iconst (pc := 27) C dX6_keep_27 ic_0 ?_
  refine m_iald (pc := 28) C (by decide) hw.1 dX6_keep_28 ?_
  have hw := hw.2
  exact a_iret C dX6_keep_29 (fun h n u hV => ⟨⟨(_, _), rfl, hw, hV⟩, m_end hs hV⟩)
def wp_X6_record_L10 (kx8 : Int32 → MS → Prop) : Nat → Int32 → MS → Prop
  | 0, _, _ => False
  | F + 1, x6, σ7 => (((612 ≤ x6) → (kx8 x6 σ7)) ∧ ((¬ 612 ≤ x6) → (vp_in (x6 + 153) (mLen 2) ∧ (vp_in x6 (mLen 2) ∧ ∀ σ13 : MS, σ13 = mU σ7 2 x6.toNatClampNeg (σ7 2 (x6 + 153).toNatClampNeg) → (wp_X6_record_L10 kx8 F (x6 + 1) σ13)))))
def wp_X6_record (σ : MS) (Q : MS → Prop) : Prop := (jn (fun (σ3 : MS) => (wp_X6_copyState 0 0 2 (153 * (σ3 5 0)) σ3 (fun σ4 => (∀ σ5 : MS, σ5 = mU σ4 5 0 ((σ4 5 0) + 1) → (Q σ5))))) (fun kj2 => (((¬ (σ 5 0) = 5) → (kj2 σ)) ∧ (((σ 5 0) = 5) → (jn (fun (x9 : Int32) (σ10 : MS) => (∀ σ11 : MS, σ11 = mU σ10 5 0 ((σ10 5 0) - 1) → (kj2 σ11))) (fun kx8 => wp_X6_record_L10 kx8 mF 0 σ))))))
theorem sg_X6_record : aSig yX6_record 0 := by decide +kernel
set_option maxHeartbeats 4000000 in
theorem ct_X6_record (l : Launch) (G : aG) (a : Nat)   (σ : MS) (Q : MS → Prop) (hw : wp_X6_record  σ Q) (h0 : AH) (n0 u0 : Nat) (hV : MV h0 a σ) : CT l yX6_record (ws_ yX6_record cX6_record 2 none) 2 G [.ref a] h0 n0 u0 0 0 (m_pv Q h0 n0 u0 a) := by
  refine CT.intro [some (.ref a), none] pn_RX6 rfl (Nat.le_of_ble_eq_true rfl) ?_
  intro p e s m args below meth c C hz hu
  have hs : s.heap.size = n0 ∧ slT s.heap = u0 := ⟨hz, hu⟩
  refine a_world (V1 := MW h0 n0 u0 a σ) (MW.start hV) ?_
  unfold wp_X6_record at hw
  refine a_aload_0 (pc := 0) C dX6_record_0 ?_
  refine m_get_states (pc := 1) C q1761 dX6_record_1 ?_
  refine a_iconst (pc := 4) C dX6_record_4 ic_5 ?_
  refine jn_use hw (fun kj2 ekj2 hw => ?_)
  have hkj2 : ∀ (σ3 : MS), kj2 σ3 → AW G p l e (aRm 2 0 0) s m args below meth c (a_A h0 n0) 2 (MQ below (a_Qc G (m_pv Q h0 n0 u0 a) (a_A h0 n0)) args s 0 0 (a_A h0 n0)) (MW h0 n0 u0 a σ3) 49 [some (.ref a), none] [] := by
    intro σ3 hw
    rw [ekj2] at hw
    refine a_aload_0 (pc := 49) C dX6_record_49 ?_
    refine m_get_z (pc := 50) C q1758 dX6_record_50 ?_
    refine a_iconst (pc := 53) C dX6_record_53 ic_0 ?_
    refine a_aload_0 (pc := 54) C dX6_record_54 ?_
    refine m_get_past (pc := 55) C q1760 dX6_record_55 ?_
    refine a_sipush (pc := 58) C dX6_record_58 sc_153 ?_
    refine a_aload_0 (pc := 61) C dX6_record_61 ?_
    refine m_get_states (pc := 62) C q1761 dX6_record_62 ?_
    refine a_imul (pc := 65) C dX6_record_65 ?_
    refine m_callS4w (pc := 66) C hs (fun h n u hV => ct_X6_copyState l G a _ _ _ _ (by decide) (by decide) _ _ hw h n u hV) (by decide) (by decide) (lw_S q1798 q1799 q77 q1800) sg_X6_copyState (Nat.le_of_ble_eq_true rfl) dX6_record_66 (fun σ4 hw => ?_)
    refine a_aload_0 (pc := 69) C dX6_record_69 ?_
    refine a_dup (pc := 70) C dX6_record_70 rfl ?_
    refine m_get_states (pc := 71) C q1761 dX6_record_71 ?_
    refine a_iconst (pc := 74) C dX6_record_74 ic_1 ?_
    refine a_iadd (pc := 75) C dX6_record_75 ?_
    refine m_put_states (pc := 76) C q1761 dX6_record_76 (fun σ5 eσ5 => ?_)
    have hw := hw σ5 eσ5
    exact a_vret C dX6_record_79 (fun h n u hV => ⟨⟨_, rfl, hw, hV⟩, m_end hs hV⟩)
  refine a_icmp_ne (pc := 5) C 49 dX6_record_5 (by decide) (fun c1 => ?_) (fun c1 => ?_)
  · have hw := hw.1 c1
    exact hkj2 _ hw
  · have hw := hw.2 c1
    refine a_iconst (pc := 8) C dX6_record_8 ic_0 ?_
    refine a_istore_1 (pc := 9) C dX6_record_9 (by decide) rfl ?_
    refine jn_use hw (fun kx8 ekx8 hw => ?_)
    have hkx8 : ∀ (x9 : Int32) (σ10 : MS), kx8 x9 σ10 → AW G p l e (aRm 2 0 0) s m args below meth c (a_A h0 n0) 2 (MQ below (a_Qc G (m_pv Q h0 n0 u0 a) (a_A h0 n0)) args s 0 0 (a_A h0 n0)) (MW h0 n0 u0 a σ10) 39 [some (.ref a), some (.int x9)] [] := by
      intro x9 σ10 hw
      rw [ekx8] at hw
      refine a_aload_0 (pc := 39) C dX6_record_39 ?_
      refine a_dup (pc := 40) C dX6_record_40 rfl ?_
      refine m_get_states (pc := 41) C q1761 dX6_record_41 ?_
      refine a_iconst (pc := 44) C dX6_record_44 ic_1 ?_
      refine a_isub (pc := 45) C dX6_record_45 ?_
      refine m_put_states (pc := 46) C q1761 dX6_record_46 (fun σ11 eσ11 => ?_)
      have hw := hw σ11 eσ11
      exact a_weak (a_le_some (a_le_none a_le_nil)) (hkj2 _ hw)
    have lp10 : ∀ (F : Nat) (x6 : Int32) (σ7 : MS), wp_X6_record_L10 kx8 F x6 σ7 → AW G p l e (aRm 2 0 0) s m args below meth c (a_A h0 n0) 2 (MQ below (a_Qc G (m_pv Q h0 n0 u0 a) (a_A h0 n0)) args s 0 0 (a_A h0 n0)) (MW h0 n0 u0 a σ7) 10 [some (.ref a), some (.int x6)] [] := by
      intro F
      induction F with
      | zero => intro x6 σ7 hw; exact False.elim hw
      | succ F ih =>
        intro x6 σ7 hw
        rw [wp_X6_record_L10] at hw
        refine a_iload_1 (pc := 10) C dX6_record_10 ?_
        refine a_sipush (pc := 11) C dX6_record_11 sc_612 ?_
        refine a_icmp_ge (pc := 14) C 39 dX6_record_14 (by decide) (fun c12 => ?_) (fun c12 => ?_)
        · have hw := hw.1 c12
          exact hkx8 _ _ hw
        · have hw := hw.2 c12
          refine a_aload_0 (pc := 17) C dX6_record_17 ?_
          refine m_get_past (pc := 18) C q1760 dX6_record_18 ?_
          refine a_iload_1 (pc := 21) C dX6_record_21 ?_
          refine a_aload_0 (pc := 22) C dX6_record_22 ?_
          refine m_get_past (pc := 23) C q1760 dX6_record_23 ?_
          refine a_iload_1 (pc := 26) C dX6_record_26 ?_
          refine a_sipush (pc := 27) C dX6_record_27 sc_153 ?_
          refine a_iadd (pc := 30) C dX6_record_30 ?_
          refine m_iald (pc := 31) C (by decide) hw.1 dX6_record_31 ?_
          have hw := hw.2
          refine m_iast (pc := 32) C (by decide) hw.1 dX6_record_32 (fun σ13 eσ13 => ?_)
          have hw := hw.2 σ13 eσ13
          refine a_iinc_1 (pc := 33) (v := 1) C dX6_record_33 (by decide) (by decide) rfl ?_
          refine a_goto (pc := 36) C 10 dX6_record_36 (by decide) ?_
          exact ih _ _ hw
    exact lp10 mF _ _ hw
def wp_X6_restore (σ : MS) (Q : Int32 → MS → Prop) : Prop := (wp_X6_goes (σ 5 1) 1 σ (fun v2 σ1 => (((¬ v2 = 0) → (wp_X6_record σ1 (fun σ4 => (wp_X6_copyState 3 0 0 0 σ4 (fun σ5 => (vp_in 0 (mLen 0) ∧ (Q (σ5 0 (0 : Int32).toNatClampNeg) σ5))))))) ∧ ((v2 = 0) → (Q 0 σ1)))))
theorem sg_X6_restore : aSig yX6_restore 0 := by decide +kernel
set_option maxHeartbeats 4000000 in
theorem ct_X6_restore (l : Launch) (G : aG) (a : Nat)   (σ : MS) (Q : Int32 → MS → Prop) (hw : wp_X6_restore  σ Q) (h0 : AH) (n0 u0 : Nat) (hV : MV h0 a σ) : CT l yX6_restore (ws_ yX6_restore cX6_restore 1 (some .int)) 3 G [.ref a] h0 n0 u0 0 0 (m_pi Q h0 n0 u0 a) := by
  refine CT.intro [some (.ref a)] pn_RX6 rfl (Nat.le_of_ble_eq_true rfl) ?_
  intro p e s m args below meth c C hz hu
  have hs : s.heap.size = n0 ∧ slT s.heap = u0 := ⟨hz, hu⟩
  refine a_world (V1 := MW h0 n0 u0 a σ) (MW.start hV) ?_
  unfold wp_X6_restore at hw
  refine a_aload_0 (pc := 0) C dX6_restore_0 ?_
  refine a_aload_0 (pc := 1) C dX6_restore_1 ?_
  refine m_get_isKept (pc := 2) C q1763 dX6_restore_2 ?_
  refine a_iconst (pc := 5) C dX6_restore_5 ic_1 ?_
  refine m_callV2i (pc := 6) C hs (fun h n u hV => ct_X6_goes l G a _ _ _ _ hw h n u hV) (by decide) (by decide) rfl (lw_V q1794 q1796 qs29 q77 q1797) sg_X6_goes (Nat.le_of_ble_eq_true rfl) dX6_restore_6 (fun v2 σ1 hw => ?_)
  refine a_if_ne (pc := 9) C 14 dX6_restore_9 (by decide) (fun c3 => ?_) (fun c3 => ?_)
  · have hw := hw.1 c3
    refine a_aload_0 (pc := 14) C dX6_restore_14 ?_
    refine m_callV0v (pc := 15) C hs (fun h n u hV => ct_X6_record l G a  _ _ hw h n u hV) (by decide) (by decide) rfl (lw_V q1813 q1815 qs30 q77 q1816) sg_X6_record (Nat.le_of_ble_eq_true rfl) dX6_restore_15 (fun σ4 hw => ?_)
    refine a_aload_0 (pc := 18) C dX6_restore_18 ?_
    refine m_get_kept (pc := 19) C q1762 dX6_restore_19 ?_
    refine a_iconst (pc := 22) C dX6_restore_22 ic_0 ?_
    refine a_aload_0 (pc := 23) C dX6_restore_23 ?_
    refine m_get_z (pc := 24) C q1758 dX6_restore_24 ?_
    refine a_iconst (pc := 27) C dX6_restore_27 ic_0 ?_
    refine m_callS4w (pc := 28) C hs (fun h n u hV => ct_X6_copyState l G a _ _ _ _ (by decide) (by decide) _ _ hw h n u hV) (by decide) (by decide) (lw_S q1798 q1799 q77 q1800) sg_X6_copyState (Nat.le_of_ble_eq_true rfl) dX6_restore_28 (fun σ5 hw => ?_)
    refine a_aload_0 (pc := 31) C dX6_restore_31 ?_
    refine m_get_z (pc := 32) C q1758 dX6_restore_32 ?_
    refine a_iconst (pc := 35) C dX6_restore_35 ic_0 ?_
    refine m_iald (pc := 36) C (by decide) hw.1 dX6_restore_36 ?_
    have hw := hw.2
    exact a_iret C dX6_restore_37 (fun h n u hV => ⟨⟨(_, _), rfl, hw, hV⟩, m_end hs hV⟩)
  · have hw := hw.2 c3
    refine a_iconst (pc := 12) C dX6_restore_12 ic_0 ?_
    exact a_iret C dX6_restore_13 (fun h n u hV => ⟨⟨(_, _), rfl, hw, hV⟩, m_end hs hV⟩)
def wp_X6_in (p1 : Int32) (p2 : Int32) (p3 : Int32) (Q : Int32 → Prop) : Prop := (((p1 < p2) → (Q 0)) ∧ ((¬ p1 < p2) → (((p3 < p1) → (Q 0)) ∧ ((¬ p3 < p1) → (Q 1)))))
theorem sg_X6_in : aSig yX6_in 3 := by decide +kernel
set_option maxHeartbeats 4000000 in
theorem ct_X6_in (l : Launch) (G : aG) (p1 : Int32) (p2 : Int32) (p3 : Int32)  (Q : Int32 → Prop) (hw : wp_X6_in p1 p2 p3 Q) (h0 : AH) (n0 u0 : Nat) : CT l yX6_in (ws_ yX6_in cX6_in 3 (some .boolean)) 1 G [.int p1, .int p2, .int p3] h0 n0 u0 0 0 (s_pi Q h0 n0 u0) := by
  refine CT.intro [some (.int p1), some (.int p2), some (.int p3)] pn_RX6 rfl (Nat.le_of_ble_eq_true rfl) ?_
  intro p e s m args below meth c C hz hu
  have hs : s.heap.size = n0 ∧ slT s.heap = u0 := ⟨hz, hu⟩
  unfold wp_X6_in at hw
  refine a_iload_0 (pc := 0) C dX6_in_0 ?_
  refine a_iload_1 (pc := 1) C dX6_in_1 ?_
  refine a_icmp_lt (pc := 2) C 14 dX6_in_2 (by decide) (fun c1 => ?_) (fun c1 => ?_)
  · have hw := hw.1 c1
    refine a_iconst (pc := 14) C dX6_in_14 ic_0 ?_
    exact a_zret rfl C dX6_in_15 (fun h n u hV => ⟨⟨_, rfl, hw, hV⟩, s_end hs hV⟩)
  · have hw := hw.2 c1
    refine a_iload_0 (pc := 5) C dX6_in_5 ?_
    refine a_iload_2 (pc := 6) C dX6_in_6 ?_
    refine a_icmp_gt (pc := 7) C 14 dX6_in_7 (by decide) (fun c2 => ?_) (fun c2 => ?_)
    · have hw := hw.1 c2
      refine a_iconst (pc := 14) C dX6_in_14 ic_0 ?_
      exact a_zret rfl C dX6_in_15 (fun h n u hV => ⟨⟨_, rfl, hw, hV⟩, s_end hs hV⟩)
    · have hw := hw.2 c2
      refine a_iconst (pc := 10) C dX6_in_10 ic_1 ?_
      refine a_goto (pc := 11) C 15 dX6_in_11 (by decide) ?_
      exact a_zret rfl C dX6_in_15 (fun h n u hV => ⟨⟨_, rfl, hw, hV⟩, s_end hs hV⟩)
def wp_X6_sets (p1 : Int32) (p2 : Int32) (p3 : Int32) (σ : MS) (Q : MS → Prop) : Prop := (vp_in ((44 + (9 * p1)) + p2) (mLen 0) ∧ ∀ σ1 : MS, σ1 = mU σ 0 ((44 + (9 * p1)) + p2).toNatClampNeg p3 → (Q σ1))
theorem sg_X6_sets : aSig yX6_sets 3 := by decide +kernel
set_option maxHeartbeats 4000000 in
theorem ct_X6_sets (l : Launch) (G : aG) (a : Nat) (p1 : Int32) (p2 : Int32) (p3 : Int32)  (σ : MS) (Q : MS → Prop) (hw : wp_X6_sets p1 p2 p3 σ Q) (h0 : AH) (n0 u0 : Nat) (hV : MV h0 a σ) : CT l yX6_sets (ws_ yX6_sets cX6_sets 4 none) 1 G [.ref a, .int p1, .int p2, .int p3] h0 n0 u0 0 0 (m_pv Q h0 n0 u0 a) := by
  refine CT.intro [some (.ref a), some (.int p1), some (.int p2), some (.int p3)] pn_RX6 rfl (Nat.le_of_ble_eq_true rfl) ?_
  intro p e s m args below meth c C hz hu
  have hs : s.heap.size = n0 ∧ slT s.heap = u0 := ⟨hz, hu⟩
  refine a_world (V1 := MW h0 n0 u0 a σ) (MW.start hV) ?_
  unfold wp_X6_sets at hw
  refine a_aload_0 (pc := 0) C dX6_sets_0 ?_
  refine m_get_z (pc := 1) C q1758 dX6_sets_1 ?_
  refine a_bipush (pc := 4) C dX6_sets_4 bc_44 ?_
  refine a_bipush (pc := 6) C dX6_sets_6 bc_9 ?_
  refine a_iload_1 (pc := 8) C dX6_sets_8 ?_
  refine a_imul (pc := 9) C dX6_sets_9 ?_
  refine a_iadd (pc := 10) C dX6_sets_10 ?_
  refine a_iload_2 (pc := 11) C dX6_sets_11 ?_
  refine a_iadd (pc := 12) C dX6_sets_12 ?_
  refine a_iload_3 (pc := 13) C dX6_sets_13 ?_
  refine m_iast (pc := 14) C (by decide) hw.1 dX6_sets_14 (fun σ1 eσ1 => ?_)
  have hw := hw.2 σ1 eσ1
  exact a_vret C dX6_sets_15 (fun h n u hV => ⟨⟨_, rfl, hw, hV⟩, m_end hs hV⟩)
def wp_X6_adds_L10 (kx4 : Int32 → MS → Prop) (x1 : Int32) : Nat → Int32 → MS → Prop
  | 0, _, _ => False
  | F + 1, x2, σ3 => (((9 ≤ x2) → (kx4 x2 σ3)) ∧ ((¬ 9 ≤ x2) → (wp_X6_sets x1 x2 0 σ3 (fun σ13 => (wp_X6_adds_L10 kx4 x1 F (x2 + 1) σ13)))))
def wp_X6_adds (p1 : Int32) (σ : MS) (Q : MS → Prop) : Prop := (vp_in 7 (mLen 0) ∧ (∀ x1 : Int32, x1 = σ 0 (7 : Int32).toNatClampNeg → (jn (fun (x5 : Int32) (σ6 : MS) => (wp_X6_sets x1 1 ((-1)) σ6 (fun σ7 => (wp_X6_sets x1 2 p1 σ7 (fun σ8 => (wp_X6_sets x1 4 12 σ8 (fun σ9 => (wp_X6_sets x1 6 15 σ9 (fun σ10 => (vp_in 7 (mLen 0) ∧ (vp_in 7 (mLen 0) ∧ ∀ σ11 : MS, σ11 = mU σ10 0 (7 : Int32).toNatClampNeg ((σ10 0 (7 : Int32).toNatClampNeg) + 1) → (Q σ11)))))))))))) (fun kx4 => wp_X6_adds_L10 kx4 x1 mF 0 σ))))
theorem sg_X6_adds : aSig yX6_adds 1 := by decide +kernel
set_option maxHeartbeats 4000000 in
theorem ct_X6_adds (l : Launch) (G : aG) (a : Nat) (p1 : Int32)  (σ : MS) (Q : MS → Prop) (hw : wp_X6_adds p1 σ Q) (h0 : AH) (n0 u0 : Nat) (hV : MV h0 a σ) : CT l yX6_adds (ws_ yX6_adds cX6_adds 4 none) 2 G [.ref a, .int p1] h0 n0 u0 0 0 (m_pv Q h0 n0 u0 a) := by
  refine CT.intro [some (.ref a), some (.int p1), none, none] pn_RX6 rfl (Nat.le_of_ble_eq_true rfl) ?_
  intro p e s m args below meth c C hz hu
  have hs : s.heap.size = n0 ∧ slT s.heap = u0 := ⟨hz, hu⟩
  refine a_world (V1 := MW h0 n0 u0 a σ) (MW.start hV) ?_
  unfold wp_X6_adds at hw
  refine a_aload_0 (pc := 0) C dX6_adds_0 ?_
  refine m_get_z (pc := 1) C q1758 dX6_adds_1 ?_
  refine a_bipush (pc := 4) C dX6_adds_4 bc_7 ?_
  refine m_iald (pc := 6) C (by decide) hw.1 dX6_adds_6 ?_
  have hw := hw.2
  refine a_topi (fun x1 ex1 => ?_)
  have hw := hw x1 ex1
  refine a_istore_2 (pc := 7) C dX6_adds_7 (by decide) rfl ?_
  refine a_iconst (pc := 8) C dX6_adds_8 ic_0 ?_
  refine a_istore_3 (pc := 9) C dX6_adds_9 (by decide) rfl ?_
  refine jn_use hw (fun kx4 ekx4 hw => ?_)
  have hkx4 : ∀ (x5 : Int32) (σ6 : MS), kx4 x5 σ6 → AW G p l e (aRm 2 0 0) s m args below meth c (a_A h0 n0) 4 (MQ below (a_Qc G (m_pv Q h0 n0 u0 a) (a_A h0 n0)) args s 0 0 (a_A h0 n0)) (MW h0 n0 u0 a σ6) 29 [some (.ref a), some (.int p1), some (.int x1), some (.int x5)] [] := by
    intro x5 σ6 hw
    rw [ekx4] at hw
    refine a_aload_0 (pc := 29) C dX6_adds_29 ?_
    refine a_iload_2 (pc := 30) C dX6_adds_30 ?_
    refine a_iconst (pc := 31) C dX6_adds_31 ic_1 ?_
    refine a_iconst (pc := 32) C dX6_adds_32 ic_m1 ?_
    refine m_callV3v (pc := 33) C hs (fun h n u hV => ct_X6_sets l G a _ _ _ _ _ hw h n u hV) (by decide) (by decide) rfl (lw_V q1828 q1830 qs32 q77 q1831) sg_X6_sets (Nat.le_of_ble_eq_true rfl) dX6_adds_33 (fun σ7 hw => ?_)
    refine a_aload_0 (pc := 36) C dX6_adds_36 ?_
    refine a_iload_2 (pc := 37) C dX6_adds_37 ?_
    refine a_iconst (pc := 38) C dX6_adds_38 ic_2 ?_
    refine a_iload_1 (pc := 39) C dX6_adds_39 ?_
    refine m_callV3v (pc := 40) C hs (fun h n u hV => ct_X6_sets l G a _ _ _ _ _ hw h n u hV) (by decide) (by decide) rfl (lw_V q1828 q1830 qs32 q77 q1831) sg_X6_sets (Nat.le_of_ble_eq_true rfl) dX6_adds_40 (fun σ8 hw => ?_)
    refine a_aload_0 (pc := 43) C dX6_adds_43 ?_
    refine a_iload_2 (pc := 44) C dX6_adds_44 ?_
    refine a_iconst (pc := 45) C dX6_adds_45 ic_4 ?_
    refine a_bipush (pc := 46) C dX6_adds_46 bc_12 ?_
    refine m_callV3v (pc := 48) C hs (fun h n u hV => ct_X6_sets l G a _ _ _ _ _ hw h n u hV) (by decide) (by decide) rfl (lw_V q1828 q1830 qs32 q77 q1831) sg_X6_sets (Nat.le_of_ble_eq_true rfl) dX6_adds_48 (fun σ9 hw => ?_)
    refine a_aload_0 (pc := 51) C dX6_adds_51 ?_
    refine a_iload_2 (pc := 52) C dX6_adds_52 ?_
    refine a_bipush (pc := 53) C dX6_adds_53 bc_6 ?_
    refine a_bipush (pc := 55) C dX6_adds_55 bc_15 ?_
    refine m_callV3v (pc := 57) C hs (fun h n u hV => ct_X6_sets l G a _ _ _ _ _ hw h n u hV) (by decide) (by decide) rfl (lw_V q1828 q1830 qs32 q77 q1831) sg_X6_sets (Nat.le_of_ble_eq_true rfl) dX6_adds_57 (fun σ10 hw => ?_)
    refine a_aload_0 (pc := 60) C dX6_adds_60 ?_
    refine m_get_z (pc := 61) C q1758 dX6_adds_61 ?_
    refine a_bipush (pc := 64) C dX6_adds_64 bc_7 ?_
    refine a_dup2 (pc := 66) C dX6_adds_66 rfl rfl ?_
    refine m_iald (pc := 67) C (by decide) hw.1 dX6_adds_67 ?_
    have hw := hw.2
    refine a_iconst (pc := 68) C dX6_adds_68 ic_1 ?_
    refine a_iadd (pc := 69) C dX6_adds_69 ?_
    refine m_iast (pc := 70) C (by decide) hw.1 dX6_adds_70 (fun σ11 eσ11 => ?_)
    have hw := hw.2 σ11 eσ11
    exact a_vret C dX6_adds_71 (fun h n u hV => ⟨⟨_, rfl, hw, hV⟩, m_end hs hV⟩)
  have lp10 : ∀ (F : Nat) (x2 : Int32) (σ3 : MS), wp_X6_adds_L10 kx4 x1 F x2 σ3 → AW G p l e (aRm 2 0 0) s m args below meth c (a_A h0 n0) 4 (MQ below (a_Qc G (m_pv Q h0 n0 u0 a) (a_A h0 n0)) args s 0 0 (a_A h0 n0)) (MW h0 n0 u0 a σ3) 10 [some (.ref a), some (.int p1), some (.int x1), some (.int x2)] [] := by
    intro F
    induction F with
    | zero => intro x2 σ3 hw; exact False.elim hw
    | succ F ih =>
      intro x2 σ3 hw
      rw [wp_X6_adds_L10] at hw
      refine a_iload_3 (pc := 10) C dX6_adds_10 ?_
      refine a_bipush (pc := 11) C dX6_adds_11 bc_9 ?_
      refine a_icmp_ge (pc := 13) C 29 dX6_adds_13 (by decide) (fun c12 => ?_) (fun c12 => ?_)
      · have hw := hw.1 c12
        exact hkx4 _ _ hw
      · have hw := hw.2 c12
        refine a_aload_0 (pc := 16) C dX6_adds_16 ?_
        refine a_iload_2 (pc := 17) C dX6_adds_17 ?_
        refine a_iload_3 (pc := 18) C dX6_adds_18 ?_
        refine a_iconst (pc := 19) C dX6_adds_19 ic_0 ?_
        refine m_callV3v (pc := 20) C hs (fun h n u hV => ct_X6_sets l G a _ _ _ _ _ hw h n u hV) (by decide) (by decide) rfl (lw_V q1828 q1830 qs32 q77 q1831) sg_X6_sets (Nat.le_of_ble_eq_true rfl) dX6_adds_20 (fun σ13 hw => ?_)
        refine a_iinc_3 (pc := 23) (v := 1) C dX6_adds_23 (by decide) (by decide) rfl ?_
        refine a_goto (pc := 26) C 10 dX6_adds_26 (by decide) ?_
        exact ih _ _ hw
  exact lp10 mF _ _ hw
def wp_X6_add (p1 : Int32) (σ : MS) (Q : Int32 → MS → Prop) : Prop := (wp_X6_in p1 100 900 (fun v1 => (vp_in 7 (mLen 0) ∧ (jn (fun (x4 : Int32) => (wp_X6_goes v1 x4 σ (fun v6 σ5 => (((¬ v6 = 0) → (wp_X6_record σ5 (fun σ8 => (wp_X6_adds p1 σ8 (fun σ9 => (vp_in 7 (mLen 0) ∧ (Q ((σ9 0 (7 : Int32).toNatClampNeg) - 1) σ9))))))) ∧ ((v6 = 0) → (Q 0 σ5)))))) (fun kj3 => (((12 ≤ (σ 0 (7 : Int32).toNatClampNeg)) → (kj3 0)) ∧ ((¬ 12 ≤ (σ 0 (7 : Int32).toNatClampNeg)) → (kj3 1))))))))
theorem sg_X6_add : aSig yX6_add 1 := by decide +kernel
set_option maxHeartbeats 4000000 in
theorem ct_X6_add (l : Launch) (G : aG) (a : Nat) (p1 : Int32)  (σ : MS) (Q : Int32 → MS → Prop) (hw : wp_X6_add p1 σ Q) (h0 : AH) (n0 u0 : Nat) (hV : MV h0 a σ) : CT l yX6_add (ws_ yX6_add cX6_add 2 (some .int)) 3 G [.ref a, .int p1] h0 n0 u0 0 0 (m_pi Q h0 n0 u0 a) := by
  refine CT.intro [some (.ref a), some (.int p1)] pn_RX6 rfl (Nat.le_of_ble_eq_true rfl) ?_
  intro p e s m args below meth c C hz hu
  have hs : s.heap.size = n0 ∧ slT s.heap = u0 := ⟨hz, hu⟩
  refine a_world (V1 := MW h0 n0 u0 a σ) (MW.start hV) ?_
  unfold wp_X6_add at hw
  refine a_aload_0 (pc := 0) C dX6_add_0 ?_
  refine a_iload_1 (pc := 1) C dX6_add_1 ?_
  refine a_bipush (pc := 2) C dX6_add_2 bc_100 ?_
  refine a_sipush (pc := 4) C dX6_add_4 sc_900 ?_
  refine m_callS3p (pc := 7) C hs (fun h n u => ct_X6_in l G _ _ _ _ hw h n u) (by decide) (by decide) (lw_S q1821 q1822 q77 q1823) sg_X6_in (Nat.le_of_ble_eq_true rfl) dX6_add_7 (fun v1 hw => ?_)
  refine a_aload_0 (pc := 10) C dX6_add_10 ?_
  refine m_get_z (pc := 11) C q1758 dX6_add_11 ?_
  refine a_bipush (pc := 14) C dX6_add_14 bc_7 ?_
  refine m_iald (pc := 16) C (by decide) hw.1 dX6_add_16 ?_
  have hw := hw.2
  refine a_bipush (pc := 17) C dX6_add_17 bc_12 ?_
  refine jn_use hw (fun kj3 ekj3 hw => ?_)
  have hkj3 : ∀ (x4 : Int32), kj3 x4 → AW G p l e (aRm 3 0 0) s m args below meth c (a_A h0 n0) 2 (MQ below (a_Qc G (m_pi Q h0 n0 u0 a) (a_A h0 n0)) args s 0 0 (a_A h0 n0)) (MW h0 n0 u0 a σ) 27 [some (.ref a), some (.int p1)] [.int x4, .int v1, .ref a] := by
    intro x4 hw
    rw [ekj3] at hw
    refine m_callV2i (pc := 27) C hs (fun h n u hV => ct_X6_goes l G a _ _ _ _ hw h n u hV) (by decide) (by decide) rfl (lw_V q1794 q1796 qs29 q77 q1797) sg_X6_goes (Nat.le_of_ble_eq_true rfl) dX6_add_27 (fun v6 σ5 hw => ?_)
    refine a_if_ne (pc := 30) C 35 dX6_add_30 (by decide) (fun c7 => ?_) (fun c7 => ?_)
    · have hw := hw.1 c7
      refine a_aload_0 (pc := 35) C dX6_add_35 ?_
      refine m_callV0v (pc := 36) C hs (fun h n u hV => ct_X6_record l G a  _ _ hw h n u hV) (by decide) (by decide) rfl (lw_V q1813 q1815 qs30 q77 q1816) sg_X6_record (Nat.le_of_ble_eq_true rfl) dX6_add_36 (fun σ8 hw => ?_)
      refine a_aload_0 (pc := 39) C dX6_add_39 ?_
      refine a_iload_1 (pc := 40) C dX6_add_40 ?_
      refine m_callV1v (pc := 41) C hs (fun h n u hV => ct_X6_adds l G a _ _ _ hw h n u hV) (by decide) (by decide) rfl (lw_V q1824 q1826 qs31 q77 q1827) sg_X6_adds (Nat.le_of_ble_eq_true rfl) dX6_add_41 (fun σ9 hw => ?_)
      refine a_aload_0 (pc := 44) C dX6_add_44 ?_
      refine m_get_z (pc := 45) C q1758 dX6_add_45 ?_
      refine a_bipush (pc := 48) C dX6_add_48 bc_7 ?_
      refine m_iald (pc := 50) C (by decide) hw.1 dX6_add_50 ?_
      have hw := hw.2
      refine a_iconst (pc := 51) C dX6_add_51 ic_1 ?_
      refine a_isub (pc := 52) C dX6_add_52 ?_
      exact a_iret C dX6_add_53 (fun h n u hV => ⟨⟨(_, _), rfl, hw, hV⟩, m_end hs hV⟩)
    · have hw := hw.2 c7
      refine a_iconst (pc := 33) C dX6_add_33 ic_0 ?_
      exact a_iret C dX6_add_34 (fun h n u hV => ⟨⟨(_, _), rfl, hw, hV⟩, m_end hs hV⟩)
  refine a_icmp_ge (pc := 19) C 26 dX6_add_19 (by decide) (fun c2 => ?_) (fun c2 => ?_)
  · have hw := hw.1 c2
    refine a_iconst (pc := 26) C dX6_add_26 ic_0 ?_
    exact hkj3 _ hw
  · have hw := hw.2 c2
    refine a_iconst (pc := 22) C dX6_add_22 ic_1 ?_
    refine a_goto (pc := 23) C 27 dX6_add_23 (by decide) ?_
    exact hkj3 _ hw
def wp_X6_isLot (p1 : Int32) (σ : MS) (Q : Int32 → MS → Prop) : Prop := (vp_in 7 (mLen 0) ∧ (wp_X6_in p1 0 ((σ 0 (7 : Int32).toNatClampNeg) - 1) (fun v1 => ((v1 = 0 ∨ v1 = 1) ∧ (Q v1 σ)))))
theorem sg_X6_isLot : aSig yX6_isLot 1 := by decide +kernel
set_option maxHeartbeats 4000000 in
theorem ct_X6_isLot (l : Launch) (G : aG) (a : Nat) (p1 : Int32)  (σ : MS) (Q : Int32 → MS → Prop) (hw : wp_X6_isLot p1 σ Q) (h0 : AH) (n0 u0 : Nat) (hV : MV h0 a σ) : CT l yX6_isLot (ws_ yX6_isLot cX6_isLot 2 (some .boolean)) 2 G [.ref a, .int p1] h0 n0 u0 0 0 (m_pi Q h0 n0 u0 a) := by
  refine CT.intro [some (.ref a), some (.int p1)] pn_RX6 rfl (Nat.le_of_ble_eq_true rfl) ?_
  intro p e s m args below meth c C hz hu
  have hs : s.heap.size = n0 ∧ slT s.heap = u0 := ⟨hz, hu⟩
  refine a_world (V1 := MW h0 n0 u0 a σ) (MW.start hV) ?_
  unfold wp_X6_isLot at hw
  refine a_iload_1 (pc := 0) C dX6_isLot_0 ?_
  refine a_iconst (pc := 1) C dX6_isLot_1 ic_0 ?_
  refine a_aload_0 (pc := 2) C dX6_isLot_2 ?_
  refine m_get_z (pc := 3) C q1758 dX6_isLot_3 ?_
  refine a_bipush (pc := 6) C dX6_isLot_6 bc_7 ?_
  refine m_iald (pc := 8) C (by decide) hw.1 dX6_isLot_8 ?_
  have hw := hw.2
  refine a_iconst (pc := 9) C dX6_isLot_9 ic_1 ?_
  refine a_isub (pc := 10) C dX6_isLot_10 ?_
  refine m_callS3p (pc := 11) C hs (fun h n u => ct_X6_in l G _ _ _ _ hw h n u) (by decide) (by decide) (lw_S q1821 q1822 q77 q1823) sg_X6_in (Nat.le_of_ble_eq_true rfl) dX6_isLot_11 (fun v1 hw => ?_)
  have hz := hw.1
  have hw := hw.2
  exact a_zret (narrow_bool hz) C dX6_isLot_14 (fun h n u hV => ⟨⟨(_, _), rfl, hw, hV⟩, m_end hs hV⟩)
def wp_X6_of (p1 : Int32) (p2 : Int32) (σ : MS) (Q : Int32 → MS → Prop) : Prop := (vp_in ((44 + (9 * p1)) + p2) (mLen 0) ∧ (Q (σ 0 ((44 + (9 * p1)) + p2).toNatClampNeg) σ))
theorem sg_X6_of : aSig yX6_of 2 := by decide +kernel
set_option maxHeartbeats 4000000 in
theorem ct_X6_of (l : Launch) (G : aG) (a : Nat) (p1 : Int32) (p2 : Int32)  (σ : MS) (Q : Int32 → MS → Prop) (hw : wp_X6_of p1 p2 σ Q) (h0 : AH) (n0 u0 : Nat) (hV : MV h0 a σ) : CT l yX6_of (ws_ yX6_of cX6_of 3 (some .int)) 1 G [.ref a, .int p1, .int p2] h0 n0 u0 0 0 (m_pi Q h0 n0 u0 a) := by
  refine CT.intro [some (.ref a), some (.int p1), some (.int p2)] pn_RX6 rfl (Nat.le_of_ble_eq_true rfl) ?_
  intro p e s m args below meth c C hz hu
  have hs : s.heap.size = n0 ∧ slT s.heap = u0 := ⟨hz, hu⟩
  refine a_world (V1 := MW h0 n0 u0 a σ) (MW.start hV) ?_
  unfold wp_X6_of at hw
  refine a_aload_0 (pc := 0) C dX6_of_0 ?_
  refine m_get_z (pc := 1) C q1758 dX6_of_1 ?_
  refine a_bipush (pc := 4) C dX6_of_4 bc_44 ?_
  refine a_bipush (pc := 6) C dX6_of_6 bc_9 ?_
  refine a_iload_1 (pc := 8) C dX6_of_8 ?_
  refine a_imul (pc := 9) C dX6_of_9 ?_
  refine a_iadd (pc := 10) C dX6_of_10 ?_
  refine a_iload_2 (pc := 11) C dX6_of_11 ?_
  refine a_iadd (pc := 12) C dX6_of_12 ?_
  refine m_iald (pc := 13) C (by decide) hw.1 dX6_of_13 ?_
  have hw := hw.2
  exact a_iret C dX6_of_14 (fun h n u hV => ⟨⟨(_, _), rfl, hw, hV⟩, m_end hs hV⟩)
def wp_X6_countIn_L4 (kx4 : Int32 → Int32 → MS → Prop) (p1 : Int32) : Nat → Int32 → Int32 → MS → Prop
  | 0, _, _, _ => False
  | F + 1, x1, x2, σ3 => (vp_in 7 (mLen 0) ∧ ((((σ3 0 (7 : Int32).toNatClampNeg) ≤ x2) → (kx4 x1 x2 σ3)) ∧ ((¬ (σ3 0 (7 : Int32).toNatClampNeg) ≤ x2) → (wp_X6_of x2 0 σ3 (fun v10 σ9 => (jn (fun (x13 : Int32) => (wp_X6_countIn_L4 kx4 p1 F (x1 + x13) (x2 + 1) σ9)) (fun kj12 => (((¬ v10 = p1) → (kj12 0)) ∧ ((v10 = p1) → (kj12 1))))))))))
def wp_X6_countIn (p1 : Int32) (σ : MS) (Q : Int32 → MS → Prop) : Prop := (jn (fun (x5 : Int32) (x6 : Int32) (σ7 : MS) => (Q x5 σ7)) (fun kx4 => wp_X6_countIn_L4 kx4 p1 mF 0 0 σ))
theorem sg_X6_countIn : aSig yX6_countIn 1 := by decide +kernel
set_option maxHeartbeats 4000000 in
theorem ct_X6_countIn (l : Launch) (G : aG) (a : Nat) (p1 : Int32)  (σ : MS) (Q : Int32 → MS → Prop) (hw : wp_X6_countIn p1 σ Q) (h0 : AH) (n0 u0 : Nat) (hV : MV h0 a σ) : CT l yX6_countIn (ws_ yX6_countIn cX6_countIn 4 (some .int)) 2 G [.ref a, .int p1] h0 n0 u0 0 0 (m_pi Q h0 n0 u0 a) := by
  refine CT.intro [some (.ref a), some (.int p1), none, none] pn_RX6 rfl (Nat.le_of_ble_eq_true rfl) ?_
  intro p e s m args below meth c C hz hu
  have hs : s.heap.size = n0 ∧ slT s.heap = u0 := ⟨hz, hu⟩
  refine a_world (V1 := MW h0 n0 u0 a σ) (MW.start hV) ?_
  unfold wp_X6_countIn at hw
  refine a_iconst (pc := 0) C dX6_countIn_0 ic_0 ?_
  refine a_istore_2 (pc := 1) C dX6_countIn_1 (by decide) rfl ?_
  refine a_iconst (pc := 2) C dX6_countIn_2 ic_0 ?_
  refine a_istore_3 (pc := 3) C dX6_countIn_3 (by decide) rfl ?_
  refine jn_use hw (fun kx4 ekx4 hw => ?_)
  have hkx4 : ∀ (x5 : Int32) (x6 : Int32) (σ7 : MS), kx4 x5 x6 σ7 → AW G p l e (aRm 2 0 0) s m args below meth c (a_A h0 n0) 4 (MQ below (a_Qc G (m_pi Q h0 n0 u0 a) (a_A h0 n0)) args s 0 0 (a_A h0 n0)) (MW h0 n0 u0 a σ7) 39 [some (.ref a), some (.int p1), some (.int x5), some (.int x6)] [] := by
    intro x5 x6 σ7 hw
    rw [ekx4] at hw
    refine a_iload_2 (pc := 39) C dX6_countIn_39 ?_
    exact a_iret C dX6_countIn_40 (fun h n u hV => ⟨⟨(_, _), rfl, hw, hV⟩, m_end hs hV⟩)
  have lp4 : ∀ (F : Nat) (x1 : Int32) (x2 : Int32) (σ3 : MS), wp_X6_countIn_L4 kx4 p1 F x1 x2 σ3 → AW G p l e (aRm 2 0 0) s m args below meth c (a_A h0 n0) 4 (MQ below (a_Qc G (m_pi Q h0 n0 u0 a) (a_A h0 n0)) args s 0 0 (a_A h0 n0)) (MW h0 n0 u0 a σ3) 4 [some (.ref a), some (.int p1), some (.int x1), some (.int x2)] [] := by
    intro F
    induction F with
    | zero => intro x1 x2 σ3 hw; exact False.elim hw
    | succ F ih =>
      intro x1 x2 σ3 hw
      rw [wp_X6_countIn_L4] at hw
      refine a_iload_3 (pc := 4) C dX6_countIn_4 ?_
      refine a_aload_0 (pc := 5) C dX6_countIn_5 ?_
      refine m_get_z (pc := 6) C q1758 dX6_countIn_6 ?_
      refine a_bipush (pc := 9) C dX6_countIn_9 bc_7 ?_
      refine m_iald (pc := 11) C (by decide) hw.1 dX6_countIn_11 ?_
      have hw := hw.2
      refine a_icmp_ge (pc := 12) C 39 dX6_countIn_12 (by decide) (fun c8 => ?_) (fun c8 => ?_)
      · have hw := hw.1 c8
        exact hkx4 _ _ _ hw
      · have hw := hw.2 c8
        refine a_iload_2 (pc := 15) C dX6_countIn_15 ?_
        refine a_aload_0 (pc := 16) C dX6_countIn_16 ?_
        refine a_iload_3 (pc := 17) C dX6_countIn_17 ?_
        refine a_iconst (pc := 18) C dX6_countIn_18 ic_0 ?_
        refine m_callV2i (pc := 19) C hs (fun h n u hV => ct_X6_of l G a _ _ _ _ hw h n u hV) (by decide) (by decide) rfl (lw_V q1844 q1846 qs35 q77 q1847) sg_X6_of (Nat.le_of_ble_eq_true rfl) dX6_countIn_19 (fun v10 σ9 hw => ?_)
        refine a_iload_1 (pc := 22) C dX6_countIn_22 ?_
        refine jn_use hw (fun kj12 ekj12 hw => ?_)
        have hkj12 : ∀ (x13 : Int32), kj12 x13 → AW G p l e (aRm 2 0 0) s m args below meth c (a_A h0 n0) 4 (MQ below (a_Qc G (m_pi Q h0 n0 u0 a) (a_A h0 n0)) args s 0 0 (a_A h0 n0)) (MW h0 n0 u0 a σ9) 31 [some (.ref a), some (.int p1), some (.int x1), some (.int x2)] [.int x13, .int x1] := by
          intro x13 hw
          rw [ekj12] at hw
          refine a_iadd (pc := 31) C dX6_countIn_31 ?_
          refine a_istore_2 (pc := 32) C dX6_countIn_32 (by decide) rfl ?_
          refine a_iinc_3 (pc := 33) (v := 1) C dX6_countIn_33 (by decide) (by decide) rfl ?_
          refine a_goto (pc := 36) C 4 dX6_countIn_36 (by decide) ?_
          exact ih _ _ _ hw
        refine a_icmp_ne (pc := 23) C 30 dX6_countIn_23 (by decide) (fun c11 => ?_) (fun c11 => ?_)
        · have hw := hw.1 c11
          refine a_iconst (pc := 30) C dX6_countIn_30 ic_0 ?_
          exact hkj12 _ hw
        · have hw := hw.2 c11
          refine a_iconst (pc := 26) C dX6_countIn_26 ic_1 ?_
          refine a_goto (pc := 27) C 31 dX6_countIn_27 (by decide) ?_
          exact hkj12 _ hw
  exact lp4 mF _ _ _ hw
def wp_X6_noSteep (p1 : Int32) (σ : MS) (Q : Int32 → MS → Prop) : Prop := (wp_X6_of p1 0 σ (fun v2 σ1 => (((v2 = 0) → (wp_X6_countIn 1 σ1 (fun v5 σ4 => (((¬ v5 = 2) → (Q 0 σ4)) ∧ ((v5 = 2) → (Q 2 σ4)))))) ∧ ((¬ v2 = 0) → (Q 1 σ1)))))
theorem sg_X6_noSteep : aSig yX6_noSteep 1 := by decide +kernel
set_option maxHeartbeats 4000000 in
theorem ct_X6_noSteep (l : Launch) (G : aG) (a : Nat) (p1 : Int32)  (σ : MS) (Q : Int32 → MS → Prop) (hw : wp_X6_noSteep p1 σ Q) (h0 : AH) (n0 u0 : Nat) (hV : MV h0 a σ) : CT l yX6_noSteep (ws_ yX6_noSteep cX6_noSteep 2 (some .int)) 3 G [.ref a, .int p1] h0 n0 u0 0 0 (m_pi Q h0 n0 u0 a) := by
  refine CT.intro [some (.ref a), some (.int p1)] pn_RX6 rfl (Nat.le_of_ble_eq_true rfl) ?_
  intro p e s m args below meth c C hz hu
  have hs : s.heap.size = n0 ∧ slT s.heap = u0 := ⟨hz, hu⟩
  refine a_world (V1 := MW h0 n0 u0 a σ) (MW.start hV) ?_
  unfold wp_X6_noSteep at hw
  refine a_aload_0 (pc := 0) C dX6_noSteep_0 ?_
  refine a_iload_1 (pc := 1) C dX6_noSteep_1 ?_
  refine a_iconst (pc := 2) C dX6_noSteep_2 ic_0 ?_
  refine m_callV2i (pc := 3) C hs (fun h n u hV => ct_X6_of l G a _ _ _ _ hw h n u hV) (by decide) (by decide) rfl (lw_V q1844 q1846 qs35 q77 q1847) sg_X6_of (Nat.le_of_ble_eq_true rfl) dX6_noSteep_3 (fun v2 σ1 hw => ?_)
  refine a_if_eq (pc := 6) C 13 dX6_noSteep_6 (by decide) (fun c3 => ?_) (fun c3 => ?_)
  · have hw := hw.1 c3
    refine a_aload_0 (pc := 13) C dX6_noSteep_13 ?_
    refine a_iconst (pc := 14) C dX6_noSteep_14 ic_1 ?_
    refine m_callV1i (pc := 15) C hs (fun h n u hV => ct_X6_countIn l G a _ _ _ hw h n u hV) (by decide) (by decide) rfl (lw_V q1848 q1850 qs36 q77 q1851) sg_X6_countIn (Nat.le_of_ble_eq_true rfl) dX6_noSteep_15 (fun v5 σ4 hw => ?_)
    refine a_iconst (pc := 18) C dX6_noSteep_18 ic_2 ?_
    refine a_icmp_ne (pc := 19) C 26 dX6_noSteep_19 (by decide) (fun c6 => ?_) (fun c6 => ?_)
    · have hw := hw.1 c6
      refine a_iconst (pc := 26) C dX6_noSteep_26 ic_0 ?_
      exact a_iret C dX6_noSteep_27 (fun h n u hV => ⟨⟨(_, _), rfl, hw, hV⟩, m_end hs hV⟩)
    · have hw := hw.2 c6
      refine a_iconst (pc := 22) C dX6_noSteep_22 ic_2 ?_
      refine a_goto (pc := 23) C 27 dX6_noSteep_23 (by decide) ?_
      exact a_iret C dX6_noSteep_27 (fun h n u hV => ⟨⟨(_, _), rfl, hw, hV⟩, m_end hs hV⟩)
  · have hw := hw.2 c3
    refine a_iconst (pc := 9) C dX6_noSteep_9 ic_1 ?_
    refine a_goto (pc := 10) C 27 dX6_noSteep_10 (by decide) ?_
    exact a_iret C dX6_noSteep_27 (fun h n u hV => ⟨⟨(_, _), rfl, hw, hV⟩, m_end hs hV⟩)
def wp_X6_least (p1 : Int32) (p2 : Int32) (Q : Int32 → Prop) : Prop := (((p2 ≤ p1) → (Q p2)) ∧ ((¬ p2 ≤ p1) → (Q p1)))
theorem sg_X6_least : aSig yX6_least 2 := by decide +kernel
set_option maxHeartbeats 4000000 in
theorem ct_X6_least (l : Launch) (G : aG) (p1 : Int32) (p2 : Int32)  (Q : Int32 → Prop) (hw : wp_X6_least p1 p2 Q) (h0 : AH) (n0 u0 : Nat) : CT l yX6_least (ws_ yX6_least cX6_least 2 (some .int)) 1 G [.int p1, .int p2] h0 n0 u0 0 0 (s_pi Q h0 n0 u0) := by
  refine CT.intro [some (.int p1), some (.int p2)] pn_RX6 rfl (Nat.le_of_ble_eq_true rfl) ?_
  intro p e s m args below meth c C hz hu
  have hs : s.heap.size = n0 ∧ slT s.heap = u0 := ⟨hz, hu⟩
  unfold wp_X6_least at hw
  refine a_iload_0 (pc := 0) C dX6_least_0 ?_
  refine a_iload_1 (pc := 1) C dX6_least_1 ?_
  refine a_icmp_ge (pc := 2) C 9 dX6_least_2 (by decide) (fun c1 => ?_) (fun c1 => ?_)
  · have hw := hw.1 c1
    refine a_iload_1 (pc := 9) C dX6_least_9 ?_
    exact a_iret C dX6_least_10 (fun h n u hV => ⟨⟨_, rfl, hw, hV⟩, s_end hs hV⟩)
  · have hw := hw.2 c1
    refine a_iload_0 (pc := 5) C dX6_least_5 ?_
    refine a_goto (pc := 6) C 10 dX6_least_6 (by decide) ?_
    exact a_iret C dX6_least_10 (fun h n u hV => ⟨⟨_, rfl, hw, hV⟩, s_end hs hV⟩)
def wp_X6_books_L3 (kx3 : Int32 → MS → Prop) : Nat → Int32 → MS → Prop
  | 0, _, _ => False
  | F + 1, x1, σ2 => (((x1 ≤ 0) → (kx3 x1 σ2)) ∧ ((¬ x1 ≤ 0) → (vp_in ((20 + x1) - 1) (mLen 0) ∧ (vp_in (20 + x1) (mLen 0) ∧ ∀ σ10 : MS, σ10 = mU σ2 0 (20 + x1).toNatClampNeg (σ2 0 ((20 + x1) - 1).toNatClampNeg) → (wp_X6_books_L3 kx3 F (x1 + (-1)) σ10)))))
def wp_X6_books (p1 : Int32) (p2 : Int32) (σ : MS) (Q : MS → Prop) : Prop := (jn (fun (x4 : Int32) (σ5 : MS) => (vp_in 0 (mLen 0) ∧ (vp_in 20 (mLen 0) ∧ ∀ σ6 : MS, σ6 = mU σ5 0 (20 : Int32).toNatClampNeg (((100 * (σ5 0 (0 : Int32).toNatClampNeg)) + (12 * p1)) + p2) → (vp_in 14 (mLen 0) ∧ (wp_X6_least ((σ6 0 (14 : Int32).toNatClampNeg) + 1) 12 (fun v7 => (vp_in 14 (mLen 0) ∧ ∀ σ8 : MS, σ8 = mU σ6 0 (14 : Int32).toNatClampNeg v7 → (Q σ8)))))))) (fun kx3 => wp_X6_books_L3 kx3 mF 11 σ))
theorem sg_X6_books : aSig yX6_books 2 := by decide +kernel
set_option maxHeartbeats 4000000 in
theorem ct_X6_books (l : Launch) (G : aG) (a : Nat) (p1 : Int32) (p2 : Int32)  (σ : MS) (Q : MS → Prop) (hw : wp_X6_books p1 p2 σ Q) (h0 : AH) (n0 u0 : Nat) (hV : MV h0 a σ) : CT l yX6_books (ws_ yX6_books cX6_books 4 none) 2 G [.ref a, .int p1, .int p2] h0 n0 u0 0 0 (m_pv Q h0 n0 u0 a) := by
  refine CT.intro [some (.ref a), some (.int p1), some (.int p2), none] pn_RX6 rfl (Nat.le_of_ble_eq_true rfl) ?_
  intro p e s m args below meth c C hz hu
  have hs : s.heap.size = n0 ∧ slT s.heap = u0 := ⟨hz, hu⟩
  refine a_world (V1 := MW h0 n0 u0 a σ) (MW.start hV) ?_
  unfold wp_X6_books at hw
  refine a_bipush (pc := 0) C dX6_books_0 bc_11 ?_
  refine a_istore_3 (pc := 2) C dX6_books_2 (by decide) rfl ?_
  refine jn_use hw (fun kx3 ekx3 hw => ?_)
  have hkx3 : ∀ (x4 : Int32) (σ5 : MS), kx3 x4 σ5 → AW G p l e (aRm 2 0 0) s m args below meth c (a_A h0 n0) 4 (MQ below (a_Qc G (m_pv Q h0 n0 u0 a) (a_A h0 n0)) args s 0 0 (a_A h0 n0)) (MW h0 n0 u0 a σ5) 33 [some (.ref a), some (.int p1), some (.int p2), some (.int x4)] [] := by
    intro x4 σ5 hw
    rw [ekx3] at hw
    refine a_aload_0 (pc := 33) C dX6_books_33 ?_
    refine m_get_z (pc := 34) C q1758 dX6_books_34 ?_
    refine a_bipush (pc := 37) C dX6_books_37 bc_20 ?_
    refine a_bipush (pc := 39) C dX6_books_39 bc_100 ?_
    refine a_aload_0 (pc := 41) C dX6_books_41 ?_
    refine m_get_z (pc := 42) C q1758 dX6_books_42 ?_
    refine a_iconst (pc := 45) C dX6_books_45 ic_0 ?_
    refine m_iald (pc := 46) C (by decide) hw.1 dX6_books_46 ?_
    have hw := hw.2
    refine a_imul (pc := 47) C dX6_books_47 ?_
    refine a_bipush (pc := 48) C dX6_books_48 bc_12 ?_
    refine a_iload_1 (pc := 50) C dX6_books_50 ?_
    refine a_imul (pc := 51) C dX6_books_51 ?_
    refine a_iadd (pc := 52) C dX6_books_52 ?_
    refine a_iload_2 (pc := 53) C dX6_books_53 ?_
    refine a_iadd (pc := 54) C dX6_books_54 ?_
    refine m_iast (pc := 55) C (by decide) hw.1 dX6_books_55 (fun σ6 eσ6 => ?_)
    have hw := hw.2 σ6 eσ6
    refine a_aload_0 (pc := 56) C dX6_books_56 ?_
    refine m_get_z (pc := 57) C q1758 dX6_books_57 ?_
    refine a_bipush (pc := 60) C dX6_books_60 bc_14 ?_
    refine a_aload_0 (pc := 62) C dX6_books_62 ?_
    refine m_get_z (pc := 63) C q1758 dX6_books_63 ?_
    refine a_bipush (pc := 66) C dX6_books_66 bc_14 ?_
    refine m_iald (pc := 68) C (by decide) hw.1 dX6_books_68 ?_
    have hw := hw.2
    refine a_iconst (pc := 69) C dX6_books_69 ic_1 ?_
    refine a_iadd (pc := 70) C dX6_books_70 ?_
    refine a_bipush (pc := 71) C dX6_books_71 bc_12 ?_
    refine m_callS2p (pc := 73) C hs (fun h n u => ct_X6_least l G _ _ _ hw h n u) (by decide) (by decide) (lw_S q1864 q1865 q77 q1866) sg_X6_least (Nat.le_of_ble_eq_true rfl) dX6_books_73 (fun v7 hw => ?_)
    refine m_iast (pc := 76) C (by decide) hw.1 dX6_books_76 (fun σ8 eσ8 => ?_)
    have hw := hw.2 σ8 eσ8
    exact a_vret C dX6_books_77 (fun h n u hV => ⟨⟨_, rfl, hw, hV⟩, m_end hs hV⟩)
  have lp3 : ∀ (F : Nat) (x1 : Int32) (σ2 : MS), wp_X6_books_L3 kx3 F x1 σ2 → AW G p l e (aRm 2 0 0) s m args below meth c (a_A h0 n0) 4 (MQ below (a_Qc G (m_pv Q h0 n0 u0 a) (a_A h0 n0)) args s 0 0 (a_A h0 n0)) (MW h0 n0 u0 a σ2) 3 [some (.ref a), some (.int p1), some (.int p2), some (.int x1)] [] := by
    intro F
    induction F with
    | zero => intro x1 σ2 hw; exact False.elim hw
    | succ F ih =>
      intro x1 σ2 hw
      rw [wp_X6_books_L3] at hw
      refine a_iload_3 (pc := 3) C dX6_books_3 ?_
      refine a_if_le (pc := 4) C 33 dX6_books_4 (by decide) (fun c9 => ?_) (fun c9 => ?_)
      · have hw := hw.1 c9
        exact hkx3 _ _ hw
      · have hw := hw.2 c9
        refine a_aload_0 (pc := 7) C dX6_books_7 ?_
        refine m_get_z (pc := 8) C q1758 dX6_books_8 ?_
        refine a_bipush (pc := 11) C dX6_books_11 bc_20 ?_
        refine a_iload_3 (pc := 13) C dX6_books_13 ?_
        refine a_iadd (pc := 14) C dX6_books_14 ?_
        refine a_aload_0 (pc := 15) C dX6_books_15 ?_
        refine m_get_z (pc := 16) C q1758 dX6_books_16 ?_
        refine a_bipush (pc := 19) C dX6_books_19 bc_20 ?_
        refine a_iload_3 (pc := 21) C dX6_books_21 ?_
        refine a_iadd (pc := 22) C dX6_books_22 ?_
        refine a_iconst (pc := 23) C dX6_books_23 ic_1 ?_
        refine a_isub (pc := 24) C dX6_books_24 ?_
        refine m_iald (pc := 25) C (by decide) hw.1 dX6_books_25 ?_
        have hw := hw.2
        refine m_iast (pc := 26) C (by decide) hw.1 dX6_books_26 (fun σ10 eσ10 => ?_)
        have hw := hw.2 σ10 eσ10
        refine a_iinc_3 (pc := 27) (v := (-1)) C dX6_books_27 (by decide) (by decide) rfl ?_
        refine a_goto (pc := 30) C 3 dX6_books_30 (by decide) ?_
        exact ih _ _ hw
  exact lp3 mF _ _ hw
def wp_X6_brings (p1 : Int32) (p2 : Int32) (p3 : Int32) (σ : MS) (Q : MS → Prop) : Prop := (wp_X6_sets p1 0 p2 σ (fun σ1 => (wp_X6_sets p1 1 p3 σ1 (fun σ2 => (wp_X6_books p2 p1 σ2 (fun σ3 => (Q σ3)))))))
theorem sg_X6_brings : aSig yX6_brings 3 := by decide +kernel
set_option maxHeartbeats 4000000 in
theorem ct_X6_brings (l : Launch) (G : aG) (a : Nat) (p1 : Int32) (p2 : Int32) (p3 : Int32)  (σ : MS) (Q : MS → Prop) (hw : wp_X6_brings p1 p2 p3 σ Q) (h0 : AH) (n0 u0 : Nat) (hV : MV h0 a σ) : CT l yX6_brings (ws_ yX6_brings cX6_brings 4 none) 3 G [.ref a, .int p1, .int p2, .int p3] h0 n0 u0 0 0 (m_pv Q h0 n0 u0 a) := by
  refine CT.intro [some (.ref a), some (.int p1), some (.int p2), some (.int p3)] pn_RX6 rfl (Nat.le_of_ble_eq_true rfl) ?_
  intro p e s m args below meth c C hz hu
  have hs : s.heap.size = n0 ∧ slT s.heap = u0 := ⟨hz, hu⟩
  refine a_world (V1 := MW h0 n0 u0 a σ) (MW.start hV) ?_
  unfold wp_X6_brings at hw
  refine a_aload_0 (pc := 0) C dX6_brings_0 ?_
  refine a_iload_1 (pc := 1) C dX6_brings_1 ?_
  refine a_iconst (pc := 2) C dX6_brings_2 ic_0 ?_
  refine a_iload_2 (pc := 3) C dX6_brings_3 ?_
  refine m_callV3v (pc := 4) C hs (fun h n u hV => ct_X6_sets l G a _ _ _ _ _ hw h n u hV) (by decide) (by decide) rfl (lw_V q1828 q1830 qs32 q77 q1831) sg_X6_sets (Nat.le_of_ble_eq_true rfl) dX6_brings_4 (fun σ1 hw => ?_)
  refine a_aload_0 (pc := 7) C dX6_brings_7 ?_
  refine a_iload_1 (pc := 8) C dX6_brings_8 ?_
  refine a_iconst (pc := 9) C dX6_brings_9 ic_1 ?_
  refine a_iload_3 (pc := 10) C dX6_brings_10 ?_
  refine m_callV3v (pc := 11) C hs (fun h n u hV => ct_X6_sets l G a _ _ _ _ _ hw h n u hV) (by decide) (by decide) rfl (lw_V q1828 q1830 qs32 q77 q1831) sg_X6_sets (Nat.le_of_ble_eq_true rfl) dX6_brings_11 (fun σ2 hw => ?_)
  refine a_aload_0 (pc := 14) C dX6_brings_14 ?_
  refine a_iload_2 (pc := 15) C dX6_brings_15 ?_
  refine a_iload_1 (pc := 16) C dX6_brings_16 ?_
  refine m_callV2v (pc := 17) C hs (fun h n u hV => ct_X6_books l G a _ _ _ _ hw h n u hV) (by decide) (by decide) rfl (lw_V q1860 q1862 qs39 q77 q1863) sg_X6_books (Nat.le_of_ble_eq_true rfl) dX6_brings_17 (fun σ3 hw => ?_)
  exact a_vret C dX6_brings_20 (fun h n u hV => ⟨⟨_, rfl, hw, hV⟩, m_end hs hV⟩)
def wp_X6_steeps (p1 : Int32) (σ : MS) (Q : MS → Prop) : Prop := (wp_X6_brings p1 1 ((-1)) σ (fun σ1 => (vp_in 8 (mLen 0) ∧ (wp_X6_of p1 2 σ1 (fun v3 σ2 => (vp_in 8 (mLen 0) ∧ ∀ σ4 : MS, σ4 = mU σ2 0 (8 : Int32).toNatClampNeg ((σ1 0 (8 : Int32).toNatClampNeg) + v3) → (Q σ4)))))))
theorem sg_X6_steeps : aSig yX6_steeps 1 := by decide +kernel
set_option maxHeartbeats 4000000 in
theorem ct_X6_steeps (l : Launch) (G : aG) (a : Nat) (p1 : Int32)  (σ : MS) (Q : MS → Prop) (hw : wp_X6_steeps p1 σ Q) (h0 : AH) (n0 u0 : Nat) (hV : MV h0 a σ) : CT l yX6_steeps (ws_ yX6_steeps cX6_steeps 2 none) 4 G [.ref a, .int p1] h0 n0 u0 0 0 (m_pv Q h0 n0 u0 a) := by
  refine CT.intro [some (.ref a), some (.int p1)] pn_RX6 rfl (Nat.le_of_ble_eq_true rfl) ?_
  intro p e s m args below meth c C hz hu
  have hs : s.heap.size = n0 ∧ slT s.heap = u0 := ⟨hz, hu⟩
  refine a_world (V1 := MW h0 n0 u0 a σ) (MW.start hV) ?_
  unfold wp_X6_steeps at hw
  refine a_aload_0 (pc := 0) C dX6_steeps_0 ?_
  refine a_iload_1 (pc := 1) C dX6_steeps_1 ?_
  refine a_iconst (pc := 2) C dX6_steeps_2 ic_1 ?_
  refine a_iconst (pc := 3) C dX6_steeps_3 ic_m1 ?_
  refine m_callV3v (pc := 4) C hs (fun h n u hV => ct_X6_brings l G a _ _ _ _ _ hw h n u hV) (by decide) (by decide) rfl (lw_V q1856 q1858 qs38 q77 q1859) sg_X6_brings (Nat.le_of_ble_eq_true rfl) dX6_steeps_4 (fun σ1 hw => ?_)
  refine a_aload_0 (pc := 7) C dX6_steeps_7 ?_
  refine m_get_z (pc := 8) C q1758 dX6_steeps_8 ?_
  refine a_bipush (pc := 11) C dX6_steeps_11 bc_8 ?_
  refine a_dup2 (pc := 13) C dX6_steeps_13 rfl rfl ?_
  refine m_iald (pc := 14) C (by decide) hw.1 dX6_steeps_14 ?_
  have hw := hw.2
  refine a_aload_0 (pc := 15) C dX6_steeps_15 ?_
  refine a_iload_1 (pc := 16) C dX6_steeps_16 ?_
  refine a_iconst (pc := 17) C dX6_steeps_17 ic_2 ?_
  refine m_callV2i (pc := 18) C hs (fun h n u hV => ct_X6_of l G a _ _ _ _ hw h n u hV) (by decide) (by decide) rfl (lw_V q1844 q1846 qs35 q77 q1847) sg_X6_of (Nat.le_of_ble_eq_true rfl) dX6_steeps_18 (fun v3 σ2 hw => ?_)
  refine a_iadd (pc := 21) C dX6_steeps_21 ?_
  refine m_iast (pc := 22) C (by decide) hw.1 dX6_steeps_22 (fun σ4 eσ4 => ?_)
  have hw := hw.2 σ4 eσ4
  exact a_vret C dX6_steeps_23 (fun h n u hV => ⟨⟨_, rfl, hw, hV⟩, m_end hs hV⟩)
def wp_X6_steep (p1 : Int32) (σ : MS) (Q : Int32 → MS → Prop) : Prop := (wp_X6_isLot p1 σ (fun v2 σ1 => (wp_X6_isLot p1 σ1 (fun v4 σ3 => (jn (fun (x7 : Int32) (σ8 : MS) => (wp_X6_goes v2 x7 σ8 (fun v10 σ9 => (((¬ v10 = 0) → (wp_X6_record σ9 (fun σ12 => (wp_X6_steeps p1 σ12 (fun σ13 => (vp_in 8 (mLen 0) ∧ (Q (σ13 0 (8 : Int32).toNatClampNeg) σ13))))))) ∧ ((v10 = 0) → (Q 0 σ9)))))) (fun kj6 => (((v4 = 0) → (kj6 1 σ3)) ∧ ((¬ v4 = 0) → (wp_X6_noSteep p1 σ3 (fun v15 σ14 => (((¬ v15 = 0) → (kj6 0 σ14)) ∧ ((v15 = 0) → (kj6 1 σ14)))))))))))))
theorem sg_X6_steep : aSig yX6_steep 1 := by decide +kernel
set_option maxHeartbeats 4000000 in
theorem ct_X6_steep (l : Launch) (G : aG) (a : Nat) (p1 : Int32)  (σ : MS) (Q : Int32 → MS → Prop) (hw : wp_X6_steep p1 σ Q) (h0 : AH) (n0 u0 : Nat) (hV : MV h0 a σ) : CT l yX6_steep (ws_ yX6_steep cX6_steep 2 (some .int)) 5 G [.ref a, .int p1] h0 n0 u0 0 0 (m_pi Q h0 n0 u0 a) := by
  refine CT.intro [some (.ref a), some (.int p1)] pn_RX6 rfl (Nat.le_of_ble_eq_true rfl) ?_
  intro p e s m args below meth c C hz hu
  have hs : s.heap.size = n0 ∧ slT s.heap = u0 := ⟨hz, hu⟩
  refine a_world (V1 := MW h0 n0 u0 a σ) (MW.start hV) ?_
  unfold wp_X6_steep at hw
  refine a_aload_0 (pc := 0) C dX6_steep_0 ?_
  refine a_aload_0 (pc := 1) C dX6_steep_1 ?_
  refine a_iload_1 (pc := 2) C dX6_steep_2 ?_
  refine m_callV1i (pc := 3) C hs (fun h n u hV => ct_X6_isLot l G a _ _ _ hw h n u hV) (by decide) (by decide) rfl (lw_V q1836 q1838 qs33 q77 q1839) sg_X6_isLot (Nat.le_of_ble_eq_true rfl) dX6_steep_3 (fun v2 σ1 hw => ?_)
  refine a_aload_0 (pc := 6) C dX6_steep_6 ?_
  refine a_iload_1 (pc := 7) C dX6_steep_7 ?_
  refine m_callV1i (pc := 8) C hs (fun h n u hV => ct_X6_isLot l G a _ _ _ hw h n u hV) (by decide) (by decide) rfl (lw_V q1836 q1838 qs33 q77 q1839) sg_X6_isLot (Nat.le_of_ble_eq_true rfl) dX6_steep_8 (fun v4 σ3 hw => ?_)
  refine jn_use hw (fun kj6 ekj6 hw => ?_)
  have hkj6 : ∀ (x7 : Int32) (σ8 : MS), kj6 x7 σ8 → AW G p l e (aRm 5 0 0) s m args below meth c (a_A h0 n0) 2 (MQ below (a_Qc G (m_pi Q h0 n0 u0 a) (a_A h0 n0)) args s 0 0 (a_A h0 n0)) (MW h0 n0 u0 a σ8) 27 [some (.ref a), some (.int p1)] [.int x7, .int v2, .ref a] := by
    intro x7 σ8 hw
    rw [ekj6] at hw
    refine m_callV2i (pc := 27) C hs (fun h n u hV => ct_X6_goes l G a _ _ _ _ hw h n u hV) (by decide) (by decide) rfl (lw_V q1794 q1796 qs29 q77 q1797) sg_X6_goes (Nat.le_of_ble_eq_true rfl) dX6_steep_27 (fun v10 σ9 hw => ?_)
    refine a_if_ne (pc := 30) C 35 dX6_steep_30 (by decide) (fun c11 => ?_) (fun c11 => ?_)
    · have hw := hw.1 c11
      refine a_aload_0 (pc := 35) C dX6_steep_35 ?_
      refine m_callV0v (pc := 36) C hs (fun h n u hV => ct_X6_record l G a  _ _ hw h n u hV) (by decide) (by decide) rfl (lw_V q1813 q1815 qs30 q77 q1816) sg_X6_record (Nat.le_of_ble_eq_true rfl) dX6_steep_36 (fun σ12 hw => ?_)
      refine a_aload_0 (pc := 39) C dX6_steep_39 ?_
      refine a_iload_1 (pc := 40) C dX6_steep_40 ?_
      refine m_callV1v (pc := 41) C hs (fun h n u hV => ct_X6_steeps l G a _ _ _ hw h n u hV) (by decide) (by decide) rfl (lw_V q1852 q1854 qs37 q77 q1855) sg_X6_steeps (Nat.le_of_ble_eq_true rfl) dX6_steep_41 (fun σ13 hw => ?_)
      refine a_aload_0 (pc := 44) C dX6_steep_44 ?_
      refine m_get_z (pc := 45) C q1758 dX6_steep_45 ?_
      refine a_bipush (pc := 48) C dX6_steep_48 bc_8 ?_
      refine m_iald (pc := 50) C (by decide) hw.1 dX6_steep_50 ?_
      have hw := hw.2
      exact a_iret C dX6_steep_51 (fun h n u hV => ⟨⟨(_, _), rfl, hw, hV⟩, m_end hs hV⟩)
    · have hw := hw.2 c11
      refine a_iconst (pc := 33) C dX6_steep_33 ic_0 ?_
      exact a_iret C dX6_steep_34 (fun h n u hV => ⟨⟨(_, _), rfl, hw, hV⟩, m_end hs hV⟩)
  refine a_if_eq (pc := 11) C 22 dX6_steep_11 (by decide) (fun c5 => ?_) (fun c5 => ?_)
  · have hw := hw.1 c5
    refine a_iconst (pc := 22) C dX6_steep_22 ic_1 ?_
    refine a_goto (pc := 23) C 27 dX6_steep_23 (by decide) ?_
    exact hkj6 _ _ hw
  · have hw := hw.2 c5
    refine a_aload_0 (pc := 14) C dX6_steep_14 ?_
    refine a_iload_1 (pc := 15) C dX6_steep_15 ?_
    refine m_callV1i (pc := 16) C hs (fun h n u hV => ct_X6_noSteep l G a _ _ _ hw h n u hV) (by decide) (by decide) rfl (lw_V q1840 q1842 qs34 q77 q1843) sg_X6_noSteep (Nat.le_of_ble_eq_true rfl) dX6_steep_16 (fun v15 σ14 hw => ?_)
    refine a_if_ne (pc := 19) C 26 dX6_steep_19 (by decide) (fun c16 => ?_) (fun c16 => ?_)
    · have hw := hw.1 c16
      refine a_iconst (pc := 26) C dX6_steep_26 ic_0 ?_
      exact hkj6 _ _ hw
    · have hw := hw.2 c16
      refine a_iconst (pc := 22) C dX6_steep_22 ic_1 ?_
      refine a_goto (pc := 23) C 27 dX6_steep_23 (by decide) ?_
      exact hkj6 _ _ hw
def wp_X6_isDrum (p1 : Int32) (Q : Int32 → Prop) : Prop := (wp_X6_in p1 0 3 (fun v1 => ((v1 = 0 ∨ v1 = 1) ∧ (Q v1))))
theorem sg_X6_isDrum : aSig yX6_isDrum 1 := by decide +kernel
set_option maxHeartbeats 4000000 in
theorem ct_X6_isDrum (l : Launch) (G : aG) (p1 : Int32)  (Q : Int32 → Prop) (hw : wp_X6_isDrum p1 Q) (h0 : AH) (n0 u0 : Nat) : CT l yX6_isDrum (ws_ yX6_isDrum cX6_isDrum 1 (some .boolean)) 2 G [.int p1] h0 n0 u0 0 0 (s_pi Q h0 n0 u0) := by
  refine CT.intro [some (.int p1)] pn_RX6 rfl (Nat.le_of_ble_eq_true rfl) ?_
  intro p e s m args below meth c C hz hu
  have hs : s.heap.size = n0 ∧ slT s.heap = u0 := ⟨hz, hu⟩
  unfold wp_X6_isDrum at hw
  refine a_iload_0 (pc := 0) C dX6_isDrum_0 ?_
  refine a_iconst (pc := 1) C dX6_isDrum_1 ic_0 ?_
  refine a_iconst (pc := 2) C dX6_isDrum_2 ic_3 ?_
  refine s_callS3p (pc := 3) C hs (fun h n u => ct_X6_in l G _ _ _ _ hw h n u) (by decide) (by decide) (lw_S q1821 q1822 q77 q1823) sg_X6_in (Nat.le_of_ble_eq_true rfl) dX6_isDrum_3 (fun v1 hw => ?_)
  have hz := hw.1
  have hw := hw.2
  exact a_zret (narrow_bool hz) C dX6_isDrum_6 (fun h n u hV => ⟨⟨_, rfl, hw, hV⟩, s_end hs hV⟩)
def wp_X6_isGrowing (p1 : Int32) (σ : MS) (Q : Int32 → MS → Prop) : Prop := (wp_X6_of p1 0 σ (fun v2 σ1 => (((v2 = 2) → (Q 1 σ1)) ∧ ((¬ v2 = 2) → (wp_X6_of p1 0 σ1 (fun v5 σ4 => (((¬ v5 = 3) → (Q 0 σ4)) ∧ ((v5 = 3) → (Q 1 σ4)))))))))
theorem sg_X6_isGrowing : aSig yX6_isGrowing 1 := by decide +kernel
set_option maxHeartbeats 4000000 in
theorem ct_X6_isGrowing (l : Launch) (G : aG) (a : Nat) (p1 : Int32)  (σ : MS) (Q : Int32 → MS → Prop) (hw : wp_X6_isGrowing p1 σ Q) (h0 : AH) (n0 u0 : Nat) (hV : MV h0 a σ) : CT l yX6_isGrowing (ws_ yX6_isGrowing cX6_isGrowing 2 (some .boolean)) 2 G [.ref a, .int p1] h0 n0 u0 0 0 (m_pi Q h0 n0 u0 a) := by
  refine CT.intro [some (.ref a), some (.int p1)] pn_RX6 rfl (Nat.le_of_ble_eq_true rfl) ?_
  intro p e s m args below meth c C hz hu
  have hs : s.heap.size = n0 ∧ slT s.heap = u0 := ⟨hz, hu⟩
  refine a_world (V1 := MW h0 n0 u0 a σ) (MW.start hV) ?_
  unfold wp_X6_isGrowing at hw
  refine a_aload_0 (pc := 0) C dX6_isGrowing_0 ?_
  refine a_iload_1 (pc := 1) C dX6_isGrowing_1 ?_
  refine a_iconst (pc := 2) C dX6_isGrowing_2 ic_0 ?_
  refine m_callV2i (pc := 3) C hs (fun h n u hV => ct_X6_of l G a _ _ _ _ hw h n u hV) (by decide) (by decide) rfl (lw_V q1844 q1846 qs35 q77 q1847) sg_X6_of (Nat.le_of_ble_eq_true rfl) dX6_isGrowing_3 (fun v2 σ1 hw => ?_)
  refine a_iconst (pc := 6) C dX6_isGrowing_6 ic_2 ?_
  refine a_icmp_eq (pc := 7) C 20 dX6_isGrowing_7 (by decide) (fun c3 => ?_) (fun c3 => ?_)
  · have hw := hw.1 c3
    refine a_iconst (pc := 20) C dX6_isGrowing_20 ic_1 ?_
    refine a_goto (pc := 21) C 25 dX6_isGrowing_21 (by decide) ?_
    exact a_zret rfl C dX6_isGrowing_25 (fun h n u hV => ⟨⟨(_, _), rfl, hw, hV⟩, m_end hs hV⟩)
  · have hw := hw.2 c3
    refine a_aload_0 (pc := 10) C dX6_isGrowing_10 ?_
    refine a_iload_1 (pc := 11) C dX6_isGrowing_11 ?_
    refine a_iconst (pc := 12) C dX6_isGrowing_12 ic_0 ?_
    refine m_callV2i (pc := 13) C hs (fun h n u hV => ct_X6_of l G a _ _ _ _ hw h n u hV) (by decide) (by decide) rfl (lw_V q1844 q1846 qs35 q77 q1847) sg_X6_of (Nat.le_of_ble_eq_true rfl) dX6_isGrowing_13 (fun v5 σ4 hw => ?_)
    refine a_iconst (pc := 16) C dX6_isGrowing_16 ic_3 ?_
    refine a_icmp_ne (pc := 17) C 24 dX6_isGrowing_17 (by decide) (fun c6 => ?_) (fun c6 => ?_)
    · have hw := hw.1 c6
      refine a_iconst (pc := 24) C dX6_isGrowing_24 ic_0 ?_
      exact a_zret rfl C dX6_isGrowing_25 (fun h n u hV => ⟨⟨(_, _), rfl, hw, hV⟩, m_end hs hV⟩)
    · have hw := hw.2 c6
      refine a_iconst (pc := 20) C dX6_isGrowing_20 ic_1 ?_
      refine a_goto (pc := 21) C 25 dX6_isGrowing_21 (by decide) ?_
      exact a_zret rfl C dX6_isGrowing_25 (fun h n u hV => ⟨⟨(_, _), rfl, hw, hV⟩, m_end hs hV⟩)
def wp_X6_inDrum_L4 (kx4 : Int32 → Int32 → MS → Prop) (p1 : Int32) : Nat → Int32 → Int32 → MS → Prop
  | 0, _, _, _ => False
  | F + 1, x1, x2, σ3 => (vp_in 7 (mLen 0) ∧ ((((σ3 0 (7 : Int32).toNatClampNeg) ≤ x2) → (kx4 x1 x2 σ3)) ∧ ((¬ (σ3 0 (7 : Int32).toNatClampNeg) ≤ x2) → (wp_X6_of x2 0 σ3 (fun v10 σ9 => (jn (fun (x13 : Int32) (σ14 : MS) => (wp_X6_inDrum_L4 kx4 p1 F x13 (x2 + 1) σ14)) (fun kj12 => (((¬ v10 = 2) → (kj12 x1 σ9)) ∧ ((v10 = 2) → (wp_X6_of x2 1 σ9 (fun v16 σ15 => (((¬ v16 = p1) → (kj12 x1 σ15)) ∧ ((v16 = p1) → (kj12 x2 σ15))))))))))))))
def wp_X6_inDrum (p1 : Int32) (σ : MS) (Q : Int32 → MS → Prop) : Prop := (jn (fun (x5 : Int32) (x6 : Int32) (σ7 : MS) => (Q x5 σ7)) (fun kx4 => wp_X6_inDrum_L4 kx4 p1 mF ((-1)) 0 σ))
theorem sg_X6_inDrum : aSig yX6_inDrum 1 := by decide +kernel
set_option maxHeartbeats 4000000 in
theorem ct_X6_inDrum (l : Launch) (G : aG) (a : Nat) (p1 : Int32)  (σ : MS) (Q : Int32 → MS → Prop) (hw : wp_X6_inDrum p1 σ Q) (h0 : AH) (n0 u0 : Nat) (hV : MV h0 a σ) : CT l yX6_inDrum (ws_ yX6_inDrum cX6_inDrum 4 (some .int)) 2 G [.ref a, .int p1] h0 n0 u0 0 0 (m_pi Q h0 n0 u0 a) := by
  refine CT.intro [some (.ref a), some (.int p1), none, none] pn_RX6 rfl (Nat.le_of_ble_eq_true rfl) ?_
  intro p e s m args below meth c C hz hu
  have hs : s.heap.size = n0 ∧ slT s.heap = u0 := ⟨hz, hu⟩
  refine a_world (V1 := MW h0 n0 u0 a σ) (MW.start hV) ?_
  unfold wp_X6_inDrum at hw
  refine a_iconst (pc := 0) C dX6_inDrum_0 ic_m1 ?_
  refine a_istore_2 (pc := 1) C dX6_inDrum_1 (by decide) rfl ?_
  refine a_iconst (pc := 2) C dX6_inDrum_2 ic_0 ?_
  refine a_istore_3 (pc := 3) C dX6_inDrum_3 (by decide) rfl ?_
  refine jn_use hw (fun kx4 ekx4 hw => ?_)
  have hkx4 : ∀ (x5 : Int32) (x6 : Int32) (σ7 : MS), kx4 x5 x6 σ7 → AW G p l e (aRm 2 0 0) s m args below meth c (a_A h0 n0) 4 (MQ below (a_Qc G (m_pi Q h0 n0 u0 a) (a_A h0 n0)) args s 0 0 (a_A h0 n0)) (MW h0 n0 u0 a σ7) 47 [some (.ref a), some (.int p1), some (.int x5), some (.int x6)] [] := by
    intro x5 x6 σ7 hw
    rw [ekx4] at hw
    refine a_iload_2 (pc := 47) C dX6_inDrum_47 ?_
    exact a_iret C dX6_inDrum_48 (fun h n u hV => ⟨⟨(_, _), rfl, hw, hV⟩, m_end hs hV⟩)
  have lp4 : ∀ (F : Nat) (x1 : Int32) (x2 : Int32) (σ3 : MS), wp_X6_inDrum_L4 kx4 p1 F x1 x2 σ3 → AW G p l e (aRm 2 0 0) s m args below meth c (a_A h0 n0) 4 (MQ below (a_Qc G (m_pi Q h0 n0 u0 a) (a_A h0 n0)) args s 0 0 (a_A h0 n0)) (MW h0 n0 u0 a σ3) 4 [some (.ref a), some (.int p1), some (.int x1), some (.int x2)] [] := by
    intro F
    induction F with
    | zero => intro x1 x2 σ3 hw; exact False.elim hw
    | succ F ih =>
      intro x1 x2 σ3 hw
      rw [wp_X6_inDrum_L4] at hw
      refine a_iload_3 (pc := 4) C dX6_inDrum_4 ?_
      refine a_aload_0 (pc := 5) C dX6_inDrum_5 ?_
      refine m_get_z (pc := 6) C q1758 dX6_inDrum_6 ?_
      refine a_bipush (pc := 9) C dX6_inDrum_9 bc_7 ?_
      refine m_iald (pc := 11) C (by decide) hw.1 dX6_inDrum_11 ?_
      have hw := hw.2
      refine a_icmp_ge (pc := 12) C 47 dX6_inDrum_12 (by decide) (fun c8 => ?_) (fun c8 => ?_)
      · have hw := hw.1 c8
        exact hkx4 _ _ _ hw
      · have hw := hw.2 c8
        refine a_aload_0 (pc := 15) C dX6_inDrum_15 ?_
        refine a_iload_3 (pc := 16) C dX6_inDrum_16 ?_
        refine a_iconst (pc := 17) C dX6_inDrum_17 ic_0 ?_
        refine m_callV2i (pc := 18) C hs (fun h n u hV => ct_X6_of l G a _ _ _ _ hw h n u hV) (by decide) (by decide) rfl (lw_V q1844 q1846 qs35 q77 q1847) sg_X6_of (Nat.le_of_ble_eq_true rfl) dX6_inDrum_18 (fun v10 σ9 hw => ?_)
        refine a_iconst (pc := 21) C dX6_inDrum_21 ic_2 ?_
        refine jn_use hw (fun kj12 ekj12 hw => ?_)
        have hkj12 : ∀ (x13 : Int32) (σ14 : MS), kj12 x13 σ14 → AW G p l e (aRm 2 0 0) s m args below meth c (a_A h0 n0) 4 (MQ below (a_Qc G (m_pi Q h0 n0 u0 a) (a_A h0 n0)) args s 0 0 (a_A h0 n0)) (MW h0 n0 u0 a σ14) 40 [some (.ref a), some (.int p1), some (.int x1), some (.int x2)] [.int x13] := by
          intro x13 σ14 hw
          rw [ekj12] at hw
          refine a_istore_2 (pc := 40) C dX6_inDrum_40 (by decide) rfl ?_
          refine a_iinc_3 (pc := 41) (v := 1) C dX6_inDrum_41 (by decide) (by decide) rfl ?_
          refine a_goto (pc := 44) C 4 dX6_inDrum_44 (by decide) ?_
          exact ih _ _ _ hw
        refine a_icmp_ne (pc := 22) C 39 dX6_inDrum_22 (by decide) (fun c11 => ?_) (fun c11 => ?_)
        · have hw := hw.1 c11
          refine a_iload_2 (pc := 39) C dX6_inDrum_39 ?_
          exact hkj12 _ _ hw
        · have hw := hw.2 c11
          refine a_aload_0 (pc := 25) C dX6_inDrum_25 ?_
          refine a_iload_3 (pc := 26) C dX6_inDrum_26 ?_
          refine a_iconst (pc := 27) C dX6_inDrum_27 ic_1 ?_
          refine m_callV2i (pc := 28) C hs (fun h n u hV => ct_X6_of l G a _ _ _ _ hw h n u hV) (by decide) (by decide) rfl (lw_V q1844 q1846 qs35 q77 q1847) sg_X6_of (Nat.le_of_ble_eq_true rfl) dX6_inDrum_28 (fun v16 σ15 hw => ?_)
          refine a_iload_1 (pc := 31) C dX6_inDrum_31 ?_
          refine a_icmp_ne (pc := 32) C 39 dX6_inDrum_32 (by decide) (fun c17 => ?_) (fun c17 => ?_)
          · have hw := hw.1 c17
            refine a_iload_2 (pc := 39) C dX6_inDrum_39 ?_
            exact hkj12 _ _ hw
          · have hw := hw.2 c17
            refine a_iload_3 (pc := 35) C dX6_inDrum_35 ?_
            refine a_goto (pc := 36) C 40 dX6_inDrum_36 (by decide) ?_
            exact hkj12 _ _ hw
  exact lp4 mF _ _ _ hw
def wp_X6_noDrum (p1 : Int32) (p2 : Int32) (σ : MS) (Q : Int32 → MS → Prop) : Prop := (wp_X6_of p1 0 σ (fun v2 σ1 => (((v2 = 1) → (wp_X6_inDrum p2 σ1 (fun v5 σ4 => (((v5 = ((-1))) → (wp_X6_of p1 4 σ4 (fun v8 σ7 => (((30 ≤ v8) → (Q 0 σ7)) ∧ ((¬ 30 ≤ v8) → (Q 3 σ7)))))) ∧ ((¬ v5 = ((-1))) → (Q 2 σ4)))))) ∧ ((¬ v2 = 1) → (wp_X6_isGrowing p1 σ1 (fun v11 σ10 => (((¬ v11 = 0) → (wp_X6_inDrum p2 σ10 (fun v14 σ13 => (((v14 = ((-1))) → (wp_X6_of p1 4 σ13 (fun v17 σ16 => (((30 ≤ v17) → (Q 0 σ16)) ∧ ((¬ 30 ≤ v17) → (Q 3 σ16)))))) ∧ ((¬ v14 = ((-1))) → (Q 2 σ13)))))) ∧ ((v11 = 0) → (Q 1 σ10)))))))))
theorem sg_X6_noDrum : aSig yX6_noDrum 2 := by decide +kernel
set_option maxHeartbeats 4000000 in
theorem ct_X6_noDrum (l : Launch) (G : aG) (a : Nat) (p1 : Int32) (p2 : Int32)  (σ : MS) (Q : Int32 → MS → Prop) (hw : wp_X6_noDrum p1 p2 σ Q) (h0 : AH) (n0 u0 : Nat) (hV : MV h0 a σ) : CT l yX6_noDrum (ws_ yX6_noDrum cX6_noDrum 3 (some .int)) 3 G [.ref a, .int p1, .int p2] h0 n0 u0 0 0 (m_pi Q h0 n0 u0 a) := by
  refine CT.intro [some (.ref a), some (.int p1), some (.int p2)] pn_RX6 rfl (Nat.le_of_ble_eq_true rfl) ?_
  intro p e s m args below meth c C hz hu
  have hs : s.heap.size = n0 ∧ slT s.heap = u0 := ⟨hz, hu⟩
  refine a_world (V1 := MW h0 n0 u0 a σ) (MW.start hV) ?_
  unfold wp_X6_noDrum at hw
  refine a_aload_0 (pc := 0) C dX6_noDrum_0 ?_
  refine a_iload_1 (pc := 1) C dX6_noDrum_1 ?_
  refine a_iconst (pc := 2) C dX6_noDrum_2 ic_0 ?_
  refine m_callV2i (pc := 3) C hs (fun h n u hV => ct_X6_of l G a _ _ _ _ hw h n u hV) (by decide) (by decide) rfl (lw_V q1844 q1846 qs35 q77 q1847) sg_X6_of (Nat.le_of_ble_eq_true rfl) dX6_noDrum_3 (fun v2 σ1 hw => ?_)
  refine a_iconst (pc := 6) C dX6_noDrum_6 ic_1 ?_
  refine a_icmp_eq (pc := 7) C 22 dX6_noDrum_7 (by decide) (fun c3 => ?_) (fun c3 => ?_)
  · have hw := hw.1 c3
    refine a_aload_0 (pc := 22) C dX6_noDrum_22 ?_
    refine a_iload_2 (pc := 23) C dX6_noDrum_23 ?_
    refine m_callV1i (pc := 24) C hs (fun h n u hV => ct_X6_inDrum l G a _ _ _ hw h n u hV) (by decide) (by decide) rfl (lw_V q1882 q1884 qs42 q77 q1885) sg_X6_inDrum (Nat.le_of_ble_eq_true rfl) dX6_noDrum_24 (fun v5 σ4 hw => ?_)
    refine a_iconst (pc := 27) C dX6_noDrum_27 ic_m1 ?_
    refine a_icmp_eq (pc := 28) C 35 dX6_noDrum_28 (by decide) (fun c6 => ?_) (fun c6 => ?_)
    · have hw := hw.1 c6
      refine a_aload_0 (pc := 35) C dX6_noDrum_35 ?_
      refine a_iload_1 (pc := 36) C dX6_noDrum_36 ?_
      refine a_iconst (pc := 37) C dX6_noDrum_37 ic_4 ?_
      refine m_callV2i (pc := 38) C hs (fun h n u hV => ct_X6_of l G a _ _ _ _ hw h n u hV) (by decide) (by decide) rfl (lw_V q1844 q1846 qs35 q77 q1847) sg_X6_of (Nat.le_of_ble_eq_true rfl) dX6_noDrum_38 (fun v8 σ7 hw => ?_)
      refine a_bipush (pc := 41) C dX6_noDrum_41 bc_30 ?_
      refine a_icmp_ge (pc := 43) C 50 dX6_noDrum_43 (by decide) (fun c9 => ?_) (fun c9 => ?_)
      · have hw := hw.1 c9
        refine a_iconst (pc := 50) C dX6_noDrum_50 ic_0 ?_
        exact a_iret C dX6_noDrum_51 (fun h n u hV => ⟨⟨(_, _), rfl, hw, hV⟩, m_end hs hV⟩)
      · have hw := hw.2 c9
        refine a_iconst (pc := 46) C dX6_noDrum_46 ic_3 ?_
        refine a_goto (pc := 47) C 51 dX6_noDrum_47 (by decide) ?_
        exact a_iret C dX6_noDrum_51 (fun h n u hV => ⟨⟨(_, _), rfl, hw, hV⟩, m_end hs hV⟩)
    · have hw := hw.2 c6
      refine a_iconst (pc := 31) C dX6_noDrum_31 ic_2 ?_
      refine a_goto (pc := 32) C 51 dX6_noDrum_32 (by decide) ?_
      exact a_iret C dX6_noDrum_51 (fun h n u hV => ⟨⟨(_, _), rfl, hw, hV⟩, m_end hs hV⟩)
  · have hw := hw.2 c3
    refine a_aload_0 (pc := 10) C dX6_noDrum_10 ?_
    refine a_iload_1 (pc := 11) C dX6_noDrum_11 ?_
    refine m_callV1i (pc := 12) C hs (fun h n u hV => ct_X6_isGrowing l G a _ _ _ hw h n u hV) (by decide) (by decide) rfl (lw_V q1878 q1880 qs41 q77 q1881) sg_X6_isGrowing (Nat.le_of_ble_eq_true rfl) dX6_noDrum_12 (fun v11 σ10 hw => ?_)
    refine a_if_ne (pc := 15) C 22 dX6_noDrum_15 (by decide) (fun c12 => ?_) (fun c12 => ?_)
    · have hw := hw.1 c12
      refine a_aload_0 (pc := 22) C dX6_noDrum_22 ?_
      refine a_iload_2 (pc := 23) C dX6_noDrum_23 ?_
      refine m_callV1i (pc := 24) C hs (fun h n u hV => ct_X6_inDrum l G a _ _ _ hw h n u hV) (by decide) (by decide) rfl (lw_V q1882 q1884 qs42 q77 q1885) sg_X6_inDrum (Nat.le_of_ble_eq_true rfl) dX6_noDrum_24 (fun v14 σ13 hw => ?_)
      refine a_iconst (pc := 27) C dX6_noDrum_27 ic_m1 ?_
      refine a_icmp_eq (pc := 28) C 35 dX6_noDrum_28 (by decide) (fun c15 => ?_) (fun c15 => ?_)
      · have hw := hw.1 c15
        refine a_aload_0 (pc := 35) C dX6_noDrum_35 ?_
        refine a_iload_1 (pc := 36) C dX6_noDrum_36 ?_
        refine a_iconst (pc := 37) C dX6_noDrum_37 ic_4 ?_
        refine m_callV2i (pc := 38) C hs (fun h n u hV => ct_X6_of l G a _ _ _ _ hw h n u hV) (by decide) (by decide) rfl (lw_V q1844 q1846 qs35 q77 q1847) sg_X6_of (Nat.le_of_ble_eq_true rfl) dX6_noDrum_38 (fun v17 σ16 hw => ?_)
        refine a_bipush (pc := 41) C dX6_noDrum_41 bc_30 ?_
        refine a_icmp_ge (pc := 43) C 50 dX6_noDrum_43 (by decide) (fun c18 => ?_) (fun c18 => ?_)
        · have hw := hw.1 c18
          refine a_iconst (pc := 50) C dX6_noDrum_50 ic_0 ?_
          exact a_iret C dX6_noDrum_51 (fun h n u hV => ⟨⟨(_, _), rfl, hw, hV⟩, m_end hs hV⟩)
        · have hw := hw.2 c18
          refine a_iconst (pc := 46) C dX6_noDrum_46 ic_3 ?_
          refine a_goto (pc := 47) C 51 dX6_noDrum_47 (by decide) ?_
          exact a_iret C dX6_noDrum_51 (fun h n u hV => ⟨⟨(_, _), rfl, hw, hV⟩, m_end hs hV⟩)
      · have hw := hw.2 c15
        refine a_iconst (pc := 31) C dX6_noDrum_31 ic_2 ?_
        refine a_goto (pc := 32) C 51 dX6_noDrum_32 (by decide) ?_
        exact a_iret C dX6_noDrum_51 (fun h n u hV => ⟨⟨(_, _), rfl, hw, hV⟩, m_end hs hV⟩)
    · have hw := hw.2 c12
      refine a_iconst (pc := 18) C dX6_noDrum_18 ic_1 ?_
      refine a_goto (pc := 19) C 51 dX6_noDrum_19 (by decide) ?_
      exact a_iret C dX6_noDrum_51 (fun h n u hV => ⟨⟨(_, _), rfl, hw, hV⟩, m_end hs hV⟩)
def wp_X6_toDrum (p1 : Int32) (p2 : Int32) (σ : MS) (Q : Int32 → MS → Prop) : Prop := (wp_X6_isLot p1 σ (fun v2 σ1 => (jn (fun (x5 : Int32) => (jn (fun (x8 : Int32) (σ9 : MS) => (wp_X6_goes x5 x8 σ9 (fun v11 σ10 => (((¬ v11 = 0) → (wp_X6_record σ10 (fun σ13 => (wp_X6_brings p1 2 p2 σ13 (fun σ14 => (wp_X6_of p1 4 σ14 (fun v16 σ15 => (Q v16 σ15)))))))) ∧ ((v11 = 0) → (Q 0 σ10)))))) (fun kj7 => (((x5 = 0) → (kj7 1 σ1)) ∧ ((¬ x5 = 0) → (wp_X6_noDrum p1 p2 σ1 (fun v18 σ17 => (((¬ v18 = 0) → (kj7 0 σ17)) ∧ ((v18 = 0) → (kj7 1 σ17)))))))))) (fun kj4 => (((v2 = 0) → (kj4 0)) ∧ ((¬ v2 = 0) → (wp_X6_isDrum p2 (fun v20 => (((v20 = 0) → (kj4 0)) ∧ ((¬ v20 = 0) → (kj4 1)))))))))))
theorem sg_X6_toDrum : aSig yX6_toDrum 2 := by decide +kernel
set_option maxHeartbeats 4000000 in
theorem ct_X6_toDrum (l : Launch) (G : aG) (a : Nat) (p1 : Int32) (p2 : Int32)  (σ : MS) (Q : Int32 → MS → Prop) (hw : wp_X6_toDrum p1 p2 σ Q) (h0 : AH) (n0 u0 : Nat) (hV : MV h0 a σ) : CT l yX6_toDrum (ws_ yX6_toDrum cX6_toDrum 4 (some .int)) 4 G [.ref a, .int p1, .int p2] h0 n0 u0 0 0 (m_pi Q h0 n0 u0 a) := by
  refine CT.intro [some (.ref a), some (.int p1), some (.int p2), none] pn_RX6 rfl (Nat.le_of_ble_eq_true rfl) ?_
  intro p e s m args below meth c C hz hu
  have hs : s.heap.size = n0 ∧ slT s.heap = u0 := ⟨hz, hu⟩
  refine a_world (V1 := MW h0 n0 u0 a σ) (MW.start hV) ?_
  unfold wp_X6_toDrum at hw
  refine a_aload_0 (pc := 0) C dX6_toDrum_0 ?_
  refine a_iload_1 (pc := 1) C dX6_toDrum_1 ?_
  refine m_callV1i (pc := 2) C hs (fun h n u hV => ct_X6_isLot l G a _ _ _ hw h n u hV) (by decide) (by decide) rfl (lw_V q1836 q1838 qs33 q77 q1839) sg_X6_isLot (Nat.le_of_ble_eq_true rfl) dX6_toDrum_2 (fun v2 σ1 hw => ?_)
  refine jn_use hw (fun kj4 ekj4 hw => ?_)
  have hkj4 : ∀ (x5 : Int32), kj4 x5 → AW G p l e (aRm 4 0 0) s m args below meth c (a_A h0 n0) 4 (MQ below (a_Qc G (m_pi Q h0 n0 u0 a) (a_A h0 n0)) args s 0 0 (a_A h0 n0)) (MW h0 n0 u0 a σ1) 20 [some (.ref a), some (.int p1), some (.int p2), none] [.int x5] := by
    intro x5 hw
    rw [ekj4] at hw
    refine a_istore_3 (pc := 20) C dX6_toDrum_20 (by decide) rfl ?_
    refine a_aload_0 (pc := 21) C dX6_toDrum_21 ?_
    refine a_iload_3 (pc := 22) C dX6_toDrum_22 ?_
    refine a_iload_3 (pc := 23) C dX6_toDrum_23 ?_
    refine jn_use hw (fun kj7 ekj7 hw => ?_)
    have hkj7 : ∀ (x8 : Int32) (σ9 : MS), kj7 x8 σ9 → AW G p l e (aRm 4 0 0) s m args below meth c (a_A h0 n0) 4 (MQ below (a_Qc G (m_pi Q h0 n0 u0 a) (a_A h0 n0)) args s 0 0 (a_A h0 n0)) (MW h0 n0 u0 a σ9) 41 [some (.ref a), some (.int p1), some (.int p2), some (.int x5)] [.int x8, .int x5, .ref a] := by
      intro x8 σ9 hw
      rw [ekj7] at hw
      refine m_callV2i (pc := 41) C hs (fun h n u hV => ct_X6_goes l G a _ _ _ _ hw h n u hV) (by decide) (by decide) rfl (lw_V q1794 q1796 qs29 q77 q1797) sg_X6_goes (Nat.le_of_ble_eq_true rfl) dX6_toDrum_41 (fun v11 σ10 hw => ?_)
      refine a_if_ne (pc := 44) C 49 dX6_toDrum_44 (by decide) (fun c12 => ?_) (fun c12 => ?_)
      · have hw := hw.1 c12
        refine a_aload_0 (pc := 49) C dX6_toDrum_49 ?_
        refine m_callV0v (pc := 50) C hs (fun h n u hV => ct_X6_record l G a  _ _ hw h n u hV) (by decide) (by decide) rfl (lw_V q1813 q1815 qs30 q77 q1816) sg_X6_record (Nat.le_of_ble_eq_true rfl) dX6_toDrum_50 (fun σ13 hw => ?_)
        refine a_aload_0 (pc := 53) C dX6_toDrum_53 ?_
        refine a_iload_1 (pc := 54) C dX6_toDrum_54 ?_
        refine a_iconst (pc := 55) C dX6_toDrum_55 ic_2 ?_
        refine a_iload_2 (pc := 56) C dX6_toDrum_56 ?_
        refine m_callV3v (pc := 57) C hs (fun h n u hV => ct_X6_brings l G a _ _ _ _ _ hw h n u hV) (by decide) (by decide) rfl (lw_V q1856 q1858 qs38 q77 q1859) sg_X6_brings (Nat.le_of_ble_eq_true rfl) dX6_toDrum_57 (fun σ14 hw => ?_)
        refine a_aload_0 (pc := 60) C dX6_toDrum_60 ?_
        refine a_iload_1 (pc := 61) C dX6_toDrum_61 ?_
        refine a_iconst (pc := 62) C dX6_toDrum_62 ic_4 ?_
        refine m_callV2i (pc := 63) C hs (fun h n u hV => ct_X6_of l G a _ _ _ _ hw h n u hV) (by decide) (by decide) rfl (lw_V q1844 q1846 qs35 q77 q1847) sg_X6_of (Nat.le_of_ble_eq_true rfl) dX6_toDrum_63 (fun v16 σ15 hw => ?_)
        exact a_iret C dX6_toDrum_66 (fun h n u hV => ⟨⟨(_, _), rfl, hw, hV⟩, m_end hs hV⟩)
      · have hw := hw.2 c12
        refine a_iconst (pc := 47) C dX6_toDrum_47 ic_0 ?_
        exact a_iret C dX6_toDrum_48 (fun h n u hV => ⟨⟨(_, _), rfl, hw, hV⟩, m_end hs hV⟩)
    refine a_if_eq (pc := 24) C 36 dX6_toDrum_24 (by decide) (fun c6 => ?_) (fun c6 => ?_)
    · have hw := hw.1 c6
      refine a_iconst (pc := 36) C dX6_toDrum_36 ic_1 ?_
      refine a_goto (pc := 37) C 41 dX6_toDrum_37 (by decide) ?_
      exact hkj7 _ _ hw
    · have hw := hw.2 c6
      refine a_aload_0 (pc := 27) C dX6_toDrum_27 ?_
      refine a_iload_1 (pc := 28) C dX6_toDrum_28 ?_
      refine a_iload_2 (pc := 29) C dX6_toDrum_29 ?_
      refine m_callV2i (pc := 30) C hs (fun h n u hV => ct_X6_noDrum l G a _ _ _ _ hw h n u hV) (by decide) (by decide) rfl (lw_V q1874 q1876 qs40 q77 q1877) sg_X6_noDrum (Nat.le_of_ble_eq_true rfl) dX6_toDrum_30 (fun v18 σ17 hw => ?_)
      refine a_if_ne (pc := 33) C 40 dX6_toDrum_33 (by decide) (fun c19 => ?_) (fun c19 => ?_)
      · have hw := hw.1 c19
        refine a_iconst (pc := 40) C dX6_toDrum_40 ic_0 ?_
        exact hkj7 _ _ hw
      · have hw := hw.2 c19
        refine a_iconst (pc := 36) C dX6_toDrum_36 ic_1 ?_
        refine a_goto (pc := 37) C 41 dX6_toDrum_37 (by decide) ?_
        exact hkj7 _ _ hw
  refine a_if_eq (pc := 5) C 19 dX6_toDrum_5 (by decide) (fun c3 => ?_) (fun c3 => ?_)
  · have hw := hw.1 c3
    refine a_iconst (pc := 19) C dX6_toDrum_19 ic_0 ?_
    exact hkj4 _ hw
  · have hw := hw.2 c3
    refine a_iload_2 (pc := 8) C dX6_toDrum_8 ?_
    refine m_callS1p (pc := 9) C hs (fun h n u => ct_X6_isDrum l G _ _ hw h n u) (by decide) (by decide) (lw_S q1871 q1872 q77 q1873) sg_X6_isDrum (Nat.le_of_ble_eq_true rfl) dX6_toDrum_9 (fun v20 hw => ?_)
    refine a_if_eq (pc := 12) C 19 dX6_toDrum_12 (by decide) (fun c21 => ?_) (fun c21 => ?_)
    · have hw := hw.1 c21
      refine a_iconst (pc := 19) C dX6_toDrum_19 ic_0 ?_
      exact hkj4 _ hw
    · have hw := hw.2 c21
      refine a_iconst (pc := 15) C dX6_toDrum_15 ic_1 ?_
      refine a_goto (pc := 16) C 20 dX6_toDrum_16 (by decide) ?_
      exact hkj4 _ hw
def wp_X6_canHeap (p1 : Int32) (σ : MS) (Q : Int32 → MS → Prop) : Prop := (wp_X6_of p1 0 σ (fun v2 σ1 => (((v2 = 1) → (Q 1 σ1)) ∧ ((¬ v2 = 1) → (wp_X6_of p1 0 σ1 (fun v5 σ4 => (((¬ v5 = 2) → (Q 0 σ4)) ∧ ((v5 = 2) → (Q 1 σ4)))))))))
theorem sg_X6_canHeap : aSig yX6_canHeap 1 := by decide +kernel
set_option maxHeartbeats 4000000 in
theorem ct_X6_canHeap (l : Launch) (G : aG) (a : Nat) (p1 : Int32)  (σ : MS) (Q : Int32 → MS → Prop) (hw : wp_X6_canHeap p1 σ Q) (h0 : AH) (n0 u0 : Nat) (hV : MV h0 a σ) : CT l yX6_canHeap (ws_ yX6_canHeap cX6_canHeap 2 (some .boolean)) 2 G [.ref a, .int p1] h0 n0 u0 0 0 (m_pi Q h0 n0 u0 a) := by
  refine CT.intro [some (.ref a), some (.int p1)] pn_RX6 rfl (Nat.le_of_ble_eq_true rfl) ?_
  intro p e s m args below meth c C hz hu
  have hs : s.heap.size = n0 ∧ slT s.heap = u0 := ⟨hz, hu⟩
  refine a_world (V1 := MW h0 n0 u0 a σ) (MW.start hV) ?_
  unfold wp_X6_canHeap at hw
  refine a_aload_0 (pc := 0) C dX6_canHeap_0 ?_
  refine a_iload_1 (pc := 1) C dX6_canHeap_1 ?_
  refine a_iconst (pc := 2) C dX6_canHeap_2 ic_0 ?_
  refine m_callV2i (pc := 3) C hs (fun h n u hV => ct_X6_of l G a _ _ _ _ hw h n u hV) (by decide) (by decide) rfl (lw_V q1844 q1846 qs35 q77 q1847) sg_X6_of (Nat.le_of_ble_eq_true rfl) dX6_canHeap_3 (fun v2 σ1 hw => ?_)
  refine a_iconst (pc := 6) C dX6_canHeap_6 ic_1 ?_
  refine a_icmp_eq (pc := 7) C 20 dX6_canHeap_7 (by decide) (fun c3 => ?_) (fun c3 => ?_)
  · have hw := hw.1 c3
    refine a_iconst (pc := 20) C dX6_canHeap_20 ic_1 ?_
    refine a_goto (pc := 21) C 25 dX6_canHeap_21 (by decide) ?_
    exact a_zret rfl C dX6_canHeap_25 (fun h n u hV => ⟨⟨(_, _), rfl, hw, hV⟩, m_end hs hV⟩)
  · have hw := hw.2 c3
    refine a_aload_0 (pc := 10) C dX6_canHeap_10 ?_
    refine a_iload_1 (pc := 11) C dX6_canHeap_11 ?_
    refine a_iconst (pc := 12) C dX6_canHeap_12 ic_0 ?_
    refine m_callV2i (pc := 13) C hs (fun h n u hV => ct_X6_of l G a _ _ _ _ hw h n u hV) (by decide) (by decide) rfl (lw_V q1844 q1846 qs35 q77 q1847) sg_X6_of (Nat.le_of_ble_eq_true rfl) dX6_canHeap_13 (fun v5 σ4 hw => ?_)
    refine a_iconst (pc := 16) C dX6_canHeap_16 ic_2 ?_
    refine a_icmp_ne (pc := 17) C 24 dX6_canHeap_17 (by decide) (fun c6 => ?_) (fun c6 => ?_)
    · have hw := hw.1 c6
      refine a_iconst (pc := 24) C dX6_canHeap_24 ic_0 ?_
      exact a_zret rfl C dX6_canHeap_25 (fun h n u hV => ⟨⟨(_, _), rfl, hw, hV⟩, m_end hs hV⟩)
    · have hw := hw.2 c6
      refine a_iconst (pc := 20) C dX6_canHeap_20 ic_1 ?_
      refine a_goto (pc := 21) C 25 dX6_canHeap_21 (by decide) ?_
      exact a_zret rfl C dX6_canHeap_25 (fun h n u hV => ⟨⟨(_, _), rfl, hw, hV⟩, m_end hs hV⟩)
def wp_X6_toHeap (p1 : Int32) (σ : MS) (Q : Int32 → MS → Prop) : Prop := (wp_X6_isLot p1 σ (fun v2 σ1 => (wp_X6_isLot p1 σ1 (fun v4 σ3 => (jn (fun (x7 : Int32) (σ8 : MS) => (wp_X6_goes v2 x7 σ8 (fun v10 σ9 => (((¬ v10 = 0) → (wp_X6_record σ9 (fun σ12 => (wp_X6_brings p1 3 ((-1)) σ12 (fun σ13 => (wp_X6_countIn 3 σ13 (fun v15 σ14 => (Q v15 σ14)))))))) ∧ ((v10 = 0) → (Q 0 σ9)))))) (fun kj6 => (((v4 = 0) → (kj6 1 σ3)) ∧ ((¬ v4 = 0) → (wp_X6_canHeap p1 σ3 (fun v17 σ16 => (((v17 = 0) → (kj6 0 σ16)) ∧ ((¬ v17 = 0) → (kj6 1 σ16)))))))))))))
theorem sg_X6_toHeap : aSig yX6_toHeap 1 := by decide +kernel
set_option maxHeartbeats 4000000 in
theorem ct_X6_toHeap (l : Launch) (G : aG) (a : Nat) (p1 : Int32)  (σ : MS) (Q : Int32 → MS → Prop) (hw : wp_X6_toHeap p1 σ Q) (h0 : AH) (n0 u0 : Nat) (hV : MV h0 a σ) : CT l yX6_toHeap (ws_ yX6_toHeap cX6_toHeap 2 (some .int)) 4 G [.ref a, .int p1] h0 n0 u0 0 0 (m_pi Q h0 n0 u0 a) := by
  refine CT.intro [some (.ref a), some (.int p1)] pn_RX6 rfl (Nat.le_of_ble_eq_true rfl) ?_
  intro p e s m args below meth c C hz hu
  have hs : s.heap.size = n0 ∧ slT s.heap = u0 := ⟨hz, hu⟩
  refine a_world (V1 := MW h0 n0 u0 a σ) (MW.start hV) ?_
  unfold wp_X6_toHeap at hw
  refine a_aload_0 (pc := 0) C dX6_toHeap_0 ?_
  refine a_aload_0 (pc := 1) C dX6_toHeap_1 ?_
  refine a_iload_1 (pc := 2) C dX6_toHeap_2 ?_
  refine m_callV1i (pc := 3) C hs (fun h n u hV => ct_X6_isLot l G a _ _ _ hw h n u hV) (by decide) (by decide) rfl (lw_V q1836 q1838 qs33 q77 q1839) sg_X6_isLot (Nat.le_of_ble_eq_true rfl) dX6_toHeap_3 (fun v2 σ1 hw => ?_)
  refine a_aload_0 (pc := 6) C dX6_toHeap_6 ?_
  refine a_iload_1 (pc := 7) C dX6_toHeap_7 ?_
  refine m_callV1i (pc := 8) C hs (fun h n u hV => ct_X6_isLot l G a _ _ _ hw h n u hV) (by decide) (by decide) rfl (lw_V q1836 q1838 qs33 q77 q1839) sg_X6_isLot (Nat.le_of_ble_eq_true rfl) dX6_toHeap_8 (fun v4 σ3 hw => ?_)
  refine jn_use hw (fun kj6 ekj6 hw => ?_)
  have hkj6 : ∀ (x7 : Int32) (σ8 : MS), kj6 x7 σ8 → AW G p l e (aRm 4 0 0) s m args below meth c (a_A h0 n0) 2 (MQ below (a_Qc G (m_pi Q h0 n0 u0 a) (a_A h0 n0)) args s 0 0 (a_A h0 n0)) (MW h0 n0 u0 a σ8) 27 [some (.ref a), some (.int p1)] [.int x7, .int v2, .ref a] := by
    intro x7 σ8 hw
    rw [ekj6] at hw
    refine m_callV2i (pc := 27) C hs (fun h n u hV => ct_X6_goes l G a _ _ _ _ hw h n u hV) (by decide) (by decide) rfl (lw_V q1794 q1796 qs29 q77 q1797) sg_X6_goes (Nat.le_of_ble_eq_true rfl) dX6_toHeap_27 (fun v10 σ9 hw => ?_)
    refine a_if_ne (pc := 30) C 35 dX6_toHeap_30 (by decide) (fun c11 => ?_) (fun c11 => ?_)
    · have hw := hw.1 c11
      refine a_aload_0 (pc := 35) C dX6_toHeap_35 ?_
      refine m_callV0v (pc := 36) C hs (fun h n u hV => ct_X6_record l G a  _ _ hw h n u hV) (by decide) (by decide) rfl (lw_V q1813 q1815 qs30 q77 q1816) sg_X6_record (Nat.le_of_ble_eq_true rfl) dX6_toHeap_36 (fun σ12 hw => ?_)
      refine a_aload_0 (pc := 39) C dX6_toHeap_39 ?_
      refine a_iload_1 (pc := 40) C dX6_toHeap_40 ?_
      refine a_iconst (pc := 41) C dX6_toHeap_41 ic_3 ?_
      refine a_iconst (pc := 42) C dX6_toHeap_42 ic_m1 ?_
      refine m_callV3v (pc := 43) C hs (fun h n u hV => ct_X6_brings l G a _ _ _ _ _ hw h n u hV) (by decide) (by decide) rfl (lw_V q1856 q1858 qs38 q77 q1859) sg_X6_brings (Nat.le_of_ble_eq_true rfl) dX6_toHeap_43 (fun σ13 hw => ?_)
      refine a_aload_0 (pc := 46) C dX6_toHeap_46 ?_
      refine a_iconst (pc := 47) C dX6_toHeap_47 ic_3 ?_
      refine m_callV1i (pc := 48) C hs (fun h n u hV => ct_X6_countIn l G a _ _ _ hw h n u hV) (by decide) (by decide) rfl (lw_V q1848 q1850 qs36 q77 q1851) sg_X6_countIn (Nat.le_of_ble_eq_true rfl) dX6_toHeap_48 (fun v15 σ14 hw => ?_)
      exact a_iret C dX6_toHeap_51 (fun h n u hV => ⟨⟨(_, _), rfl, hw, hV⟩, m_end hs hV⟩)
    · have hw := hw.2 c11
      refine a_iconst (pc := 33) C dX6_toHeap_33 ic_0 ?_
      exact a_iret C dX6_toHeap_34 (fun h n u hV => ⟨⟨(_, _), rfl, hw, hV⟩, m_end hs hV⟩)
  refine a_if_eq (pc := 11) C 22 dX6_toHeap_11 (by decide) (fun c5 => ?_) (fun c5 => ?_)
  · have hw := hw.1 c5
    refine a_iconst (pc := 22) C dX6_toHeap_22 ic_1 ?_
    refine a_goto (pc := 23) C 27 dX6_toHeap_23 (by decide) ?_
    exact hkj6 _ _ hw
  · have hw := hw.2 c5
    refine a_aload_0 (pc := 14) C dX6_toHeap_14 ?_
    refine a_iload_1 (pc := 15) C dX6_toHeap_15 ?_
    refine m_callV1i (pc := 16) C hs (fun h n u hV => ct_X6_canHeap l G a _ _ _ hw h n u hV) (by decide) (by decide) rfl (lw_V q1890 q1892 qs43 q77 q1893) sg_X6_canHeap (Nat.le_of_ble_eq_true rfl) dX6_toHeap_16 (fun v17 σ16 hw => ?_)
    refine a_if_eq (pc := 19) C 26 dX6_toHeap_19 (by decide) (fun c18 => ?_) (fun c18 => ?_)
    · have hw := hw.1 c18
      refine a_iconst (pc := 26) C dX6_toHeap_26 ic_0 ?_
      exact hkj6 _ _ hw
    · have hw := hw.2 c18
      refine a_iconst (pc := 22) C dX6_toHeap_22 ic_1 ?_
      refine a_goto (pc := 23) C 27 dX6_toHeap_23 (by decide) ?_
      exact hkj6 _ _ hw
def wp_X6_weight (p1 : Int32) (σ : MS) (Q : Int32 → MS → Prop) : Prop := (wp_X6_of p1 2 σ (fun v2 σ1 => (wp_X6_of p1 3 σ1 (fun v4 σ3 => (Q (v2 + v4) σ3)))))
theorem sg_X6_weight : aSig yX6_weight 1 := by decide +kernel
set_option maxHeartbeats 4000000 in
theorem ct_X6_weight (l : Launch) (G : aG) (a : Nat) (p1 : Int32)  (σ : MS) (Q : Int32 → MS → Prop) (hw : wp_X6_weight p1 σ Q) (h0 : AH) (n0 u0 : Nat) (hV : MV h0 a σ) : CT l yX6_weight (ws_ yX6_weight cX6_weight 2 (some .int)) 2 G [.ref a, .int p1] h0 n0 u0 0 0 (m_pi Q h0 n0 u0 a) := by
  refine CT.intro [some (.ref a), some (.int p1)] pn_RX6 rfl (Nat.le_of_ble_eq_true rfl) ?_
  intro p e s m args below meth c C hz hu
  have hs : s.heap.size = n0 ∧ slT s.heap = u0 := ⟨hz, hu⟩
  refine a_world (V1 := MW h0 n0 u0 a σ) (MW.start hV) ?_
  unfold wp_X6_weight at hw
  refine a_aload_0 (pc := 0) C dX6_weight_0 ?_
  refine a_iload_1 (pc := 1) C dX6_weight_1 ?_
  refine a_iconst (pc := 2) C dX6_weight_2 ic_2 ?_
  refine m_callV2i (pc := 3) C hs (fun h n u hV => ct_X6_of l G a _ _ _ _ hw h n u hV) (by decide) (by decide) rfl (lw_V q1844 q1846 qs35 q77 q1847) sg_X6_of (Nat.le_of_ble_eq_true rfl) dX6_weight_3 (fun v2 σ1 hw => ?_)
  refine a_aload_0 (pc := 6) C dX6_weight_6 ?_
  refine a_iload_1 (pc := 7) C dX6_weight_7 ?_
  refine a_iconst (pc := 8) C dX6_weight_8 ic_3 ?_
  refine m_callV2i (pc := 9) C hs (fun h n u hV => ct_X6_of l G a _ _ _ _ hw h n u hV) (by decide) (by decide) rfl (lw_V q1844 q1846 qs35 q77 q1847) sg_X6_of (Nat.le_of_ble_eq_true rfl) dX6_weight_9 (fun v4 σ3 hw => ?_)
  refine a_iadd (pc := 12) C dX6_weight_12 ?_
  exact a_iret C dX6_weight_13 (fun h n u hV => ⟨⟨(_, _), rfl, hw, hV⟩, m_end hs hV⟩)
def wp_X6_weightIn_L4 (kx4 : Int32 → Int32 → MS → Prop) (p1 : Int32) : Nat → Int32 → Int32 → MS → Prop
  | 0, _, _, _ => False
  | F + 1, x1, x2, σ3 => (vp_in 7 (mLen 0) ∧ ((((σ3 0 (7 : Int32).toNatClampNeg) ≤ x2) → (kx4 x1 x2 σ3)) ∧ ((¬ (σ3 0 (7 : Int32).toNatClampNeg) ≤ x2) → (wp_X6_of x2 0 σ3 (fun v10 σ9 => (jn (fun (x13 : Int32) (σ14 : MS) => (wp_X6_weightIn_L4 kx4 p1 F (x1 + x13) (x2 + 1) σ14)) (fun kj12 => (((¬ v10 = p1) → (kj12 0 σ9)) ∧ ((v10 = p1) → (wp_X6_weight x2 σ9 (fun v16 σ15 => (kj12 v16 σ15))))))))))))
def wp_X6_weightIn (p1 : Int32) (σ : MS) (Q : Int32 → MS → Prop) : Prop := (jn (fun (x5 : Int32) (x6 : Int32) (σ7 : MS) => (Q x5 σ7)) (fun kx4 => wp_X6_weightIn_L4 kx4 p1 mF 0 0 σ))
theorem sg_X6_weightIn : aSig yX6_weightIn 1 := by decide +kernel
set_option maxHeartbeats 4000000 in
theorem ct_X6_weightIn (l : Launch) (G : aG) (a : Nat) (p1 : Int32)  (σ : MS) (Q : Int32 → MS → Prop) (hw : wp_X6_weightIn p1 σ Q) (h0 : AH) (n0 u0 : Nat) (hV : MV h0 a σ) : CT l yX6_weightIn (ws_ yX6_weightIn cX6_weightIn 4 (some .int)) 3 G [.ref a, .int p1] h0 n0 u0 0 0 (m_pi Q h0 n0 u0 a) := by
  refine CT.intro [some (.ref a), some (.int p1), none, none] pn_RX6 rfl (Nat.le_of_ble_eq_true rfl) ?_
  intro p e s m args below meth c C hz hu
  have hs : s.heap.size = n0 ∧ slT s.heap = u0 := ⟨hz, hu⟩
  refine a_world (V1 := MW h0 n0 u0 a σ) (MW.start hV) ?_
  unfold wp_X6_weightIn at hw
  refine a_iconst (pc := 0) C dX6_weightIn_0 ic_0 ?_
  refine a_istore_2 (pc := 1) C dX6_weightIn_1 (by decide) rfl ?_
  refine a_iconst (pc := 2) C dX6_weightIn_2 ic_0 ?_
  refine a_istore_3 (pc := 3) C dX6_weightIn_3 (by decide) rfl ?_
  refine jn_use hw (fun kx4 ekx4 hw => ?_)
  have hkx4 : ∀ (x5 : Int32) (x6 : Int32) (σ7 : MS), kx4 x5 x6 σ7 → AW G p l e (aRm 3 0 0) s m args below meth c (a_A h0 n0) 4 (MQ below (a_Qc G (m_pi Q h0 n0 u0 a) (a_A h0 n0)) args s 0 0 (a_A h0 n0)) (MW h0 n0 u0 a σ7) 43 [some (.ref a), some (.int p1), some (.int x5), some (.int x6)] [] := by
    intro x5 x6 σ7 hw
    rw [ekx4] at hw
    refine a_iload_2 (pc := 43) C dX6_weightIn_43 ?_
    exact a_iret C dX6_weightIn_44 (fun h n u hV => ⟨⟨(_, _), rfl, hw, hV⟩, m_end hs hV⟩)
  have lp4 : ∀ (F : Nat) (x1 : Int32) (x2 : Int32) (σ3 : MS), wp_X6_weightIn_L4 kx4 p1 F x1 x2 σ3 → AW G p l e (aRm 3 0 0) s m args below meth c (a_A h0 n0) 4 (MQ below (a_Qc G (m_pi Q h0 n0 u0 a) (a_A h0 n0)) args s 0 0 (a_A h0 n0)) (MW h0 n0 u0 a σ3) 4 [some (.ref a), some (.int p1), some (.int x1), some (.int x2)] [] := by
    intro F
    induction F with
    | zero => intro x1 x2 σ3 hw; exact False.elim hw
    | succ F ih =>
      intro x1 x2 σ3 hw
      rw [wp_X6_weightIn_L4] at hw
      refine a_iload_3 (pc := 4) C dX6_weightIn_4 ?_
      refine a_aload_0 (pc := 5) C dX6_weightIn_5 ?_
      refine m_get_z (pc := 6) C q1758 dX6_weightIn_6 ?_
      refine a_bipush (pc := 9) C dX6_weightIn_9 bc_7 ?_
      refine m_iald (pc := 11) C (by decide) hw.1 dX6_weightIn_11 ?_
      have hw := hw.2
      refine a_icmp_ge (pc := 12) C 43 dX6_weightIn_12 (by decide) (fun c8 => ?_) (fun c8 => ?_)
      · have hw := hw.1 c8
        exact hkx4 _ _ _ hw
      · have hw := hw.2 c8
        refine a_iload_2 (pc := 15) C dX6_weightIn_15 ?_
        refine a_aload_0 (pc := 16) C dX6_weightIn_16 ?_
        refine a_iload_3 (pc := 17) C dX6_weightIn_17 ?_
        refine a_iconst (pc := 18) C dX6_weightIn_18 ic_0 ?_
        refine m_callV2i (pc := 19) C hs (fun h n u hV => ct_X6_of l G a _ _ _ _ hw h n u hV) (by decide) (by decide) rfl (lw_V q1844 q1846 qs35 q77 q1847) sg_X6_of (Nat.le_of_ble_eq_true rfl) dX6_weightIn_19 (fun v10 σ9 hw => ?_)
        refine a_iload_1 (pc := 22) C dX6_weightIn_22 ?_
        refine jn_use hw (fun kj12 ekj12 hw => ?_)
        have hkj12 : ∀ (x13 : Int32) (σ14 : MS), kj12 x13 σ14 → AW G p l e (aRm 3 0 0) s m args below meth c (a_A h0 n0) 4 (MQ below (a_Qc G (m_pi Q h0 n0 u0 a) (a_A h0 n0)) args s 0 0 (a_A h0 n0)) (MW h0 n0 u0 a σ14) 35 [some (.ref a), some (.int p1), some (.int x1), some (.int x2)] [.int x13, .int x1] := by
          intro x13 σ14 hw
          rw [ekj12] at hw
          refine a_iadd (pc := 35) C dX6_weightIn_35 ?_
          refine a_istore_2 (pc := 36) C dX6_weightIn_36 (by decide) rfl ?_
          refine a_iinc_3 (pc := 37) (v := 1) C dX6_weightIn_37 (by decide) (by decide) rfl ?_
          refine a_goto (pc := 40) C 4 dX6_weightIn_40 (by decide) ?_
          exact ih _ _ _ hw
        refine a_icmp_ne (pc := 23) C 34 dX6_weightIn_23 (by decide) (fun c11 => ?_) (fun c11 => ?_)
        · have hw := hw.1 c11
          refine a_iconst (pc := 34) C dX6_weightIn_34 ic_0 ?_
          exact hkj12 _ _ hw
        · have hw := hw.2 c11
          refine a_aload_0 (pc := 26) C dX6_weightIn_26 ?_
          refine a_iload_3 (pc := 27) C dX6_weightIn_27 ?_
          refine m_callV1i (pc := 28) C hs (fun h n u hV => ct_X6_weight l G a _ _ _ hw h n u hV) (by decide) (by decide) rfl (lw_V q1906 q1908 qs46 q77 q1909) sg_X6_weight (Nat.le_of_ble_eq_true rfl) dX6_weightIn_28 (fun v16 σ15 hw => ?_)
          refine a_goto (pc := 31) C 35 dX6_weightIn_31 (by decide) ?_
          exact hkj12 _ _ hw
  exact lp4 mF _ _ _ hw
def wp_X6_noLoad (p1 : Int32) (σ : MS) (Q : Int32 → MS → Prop) : Prop := (wp_X6_isGrowing p1 σ (fun v2 σ1 => (((¬ v2 = 0) → (vp_in 1 (mLen 0) ∧ (((¬ (σ1 0 (1 : Int32).toNatClampNeg) = 1) → (wp_X6_weightIn 4 σ1 (fun v6 σ5 => (wp_X6_weight p1 σ5 (fun v8 σ7 => ((((v6 + v8) ≤ 2000) → (wp_X6_of p1 5 σ7 (fun v11 σ10 => (((40 ≤ v11) → (Q 0 σ10)) ∧ ((¬ 40 ≤ v11) → (Q 4 σ10)))))) ∧ ((¬ (v6 + v8) ≤ 2000) → (Q 3 σ7)))))))) ∧ (((σ1 0 (1 : Int32).toNatClampNeg) = 1) → (Q 2 σ1))))) ∧ ((v2 = 0) → (Q 1 σ1)))))
theorem sg_X6_noLoad : aSig yX6_noLoad 1 := by decide +kernel
set_option maxHeartbeats 4000000 in
theorem ct_X6_noLoad (l : Launch) (G : aG) (a : Nat) (p1 : Int32)  (σ : MS) (Q : Int32 → MS → Prop) (hw : wp_X6_noLoad p1 σ Q) (h0 : AH) (n0 u0 : Nat) (hV : MV h0 a σ) : CT l yX6_noLoad (ws_ yX6_noLoad cX6_noLoad 2 (some .int)) 4 G [.ref a, .int p1] h0 n0 u0 0 0 (m_pi Q h0 n0 u0 a) := by
  refine CT.intro [some (.ref a), some (.int p1)] pn_RX6 rfl (Nat.le_of_ble_eq_true rfl) ?_
  intro p e s m args below meth c C hz hu
  have hs : s.heap.size = n0 ∧ slT s.heap = u0 := ⟨hz, hu⟩
  refine a_world (V1 := MW h0 n0 u0 a σ) (MW.start hV) ?_
  unfold wp_X6_noLoad at hw
  refine a_aload_0 (pc := 0) C dX6_noLoad_0 ?_
  refine a_iload_1 (pc := 1) C dX6_noLoad_1 ?_
  refine m_callV1i (pc := 2) C hs (fun h n u hV => ct_X6_isGrowing l G a _ _ _ hw h n u hV) (by decide) (by decide) rfl (lw_V q1878 q1880 qs41 q77 q1881) sg_X6_isGrowing (Nat.le_of_ble_eq_true rfl) dX6_noLoad_2 (fun v2 σ1 hw => ?_)
  refine a_if_ne (pc := 5) C 12 dX6_noLoad_5 (by decide) (fun c3 => ?_) (fun c3 => ?_)
  · have hw := hw.1 c3
    refine a_aload_0 (pc := 12) C dX6_noLoad_12 ?_
    refine m_get_z (pc := 13) C q1758 dX6_noLoad_13 ?_
    refine a_iconst (pc := 16) C dX6_noLoad_16 ic_1 ?_
    refine m_iald (pc := 17) C (by decide) hw.1 dX6_noLoad_17 ?_
    have hw := hw.2
    refine a_iconst (pc := 18) C dX6_noLoad_18 ic_1 ?_
    refine a_icmp_ne (pc := 19) C 26 dX6_noLoad_19 (by decide) (fun c4 => ?_) (fun c4 => ?_)
    · have hw := hw.1 c4
      refine a_aload_0 (pc := 26) C dX6_noLoad_26 ?_
      refine a_iconst (pc := 27) C dX6_noLoad_27 ic_4 ?_
      refine m_callV1i (pc := 28) C hs (fun h n u hV => ct_X6_weightIn l G a _ _ _ hw h n u hV) (by decide) (by decide) rfl (lw_V q1902 q1904 qs45 q77 q1905) sg_X6_weightIn (Nat.le_of_ble_eq_true rfl) dX6_noLoad_28 (fun v6 σ5 hw => ?_)
      refine a_aload_0 (pc := 31) C dX6_noLoad_31 ?_
      refine a_iload_1 (pc := 32) C dX6_noLoad_32 ?_
      refine m_callV1i (pc := 33) C hs (fun h n u hV => ct_X6_weight l G a _ _ _ hw h n u hV) (by decide) (by decide) rfl (lw_V q1906 q1908 qs46 q77 q1909) sg_X6_weight (Nat.le_of_ble_eq_true rfl) dX6_noLoad_33 (fun v8 σ7 hw => ?_)
      refine a_iadd (pc := 36) C dX6_noLoad_36 ?_
      refine a_sipush (pc := 37) C dX6_noLoad_37 sc_2000 ?_
      refine a_icmp_le (pc := 40) C 47 dX6_noLoad_40 (by decide) (fun c9 => ?_) (fun c9 => ?_)
      · have hw := hw.1 c9
        refine a_aload_0 (pc := 47) C dX6_noLoad_47 ?_
        refine a_iload_1 (pc := 48) C dX6_noLoad_48 ?_
        refine a_iconst (pc := 49) C dX6_noLoad_49 ic_5 ?_
        refine m_callV2i (pc := 50) C hs (fun h n u hV => ct_X6_of l G a _ _ _ _ hw h n u hV) (by decide) (by decide) rfl (lw_V q1844 q1846 qs35 q77 q1847) sg_X6_of (Nat.le_of_ble_eq_true rfl) dX6_noLoad_50 (fun v11 σ10 hw => ?_)
        refine a_bipush (pc := 53) C dX6_noLoad_53 bc_40 ?_
        refine a_icmp_ge (pc := 55) C 62 dX6_noLoad_55 (by decide) (fun c12 => ?_) (fun c12 => ?_)
        · have hw := hw.1 c12
          refine a_iconst (pc := 62) C dX6_noLoad_62 ic_0 ?_
          exact a_iret C dX6_noLoad_63 (fun h n u hV => ⟨⟨(_, _), rfl, hw, hV⟩, m_end hs hV⟩)
        · have hw := hw.2 c12
          refine a_iconst (pc := 58) C dX6_noLoad_58 ic_4 ?_
          refine a_goto (pc := 59) C 63 dX6_noLoad_59 (by decide) ?_
          exact a_iret C dX6_noLoad_63 (fun h n u hV => ⟨⟨(_, _), rfl, hw, hV⟩, m_end hs hV⟩)
      · have hw := hw.2 c9
        refine a_iconst (pc := 43) C dX6_noLoad_43 ic_3 ?_
        refine a_goto (pc := 44) C 63 dX6_noLoad_44 (by decide) ?_
        exact a_iret C dX6_noLoad_63 (fun h n u hV => ⟨⟨(_, _), rfl, hw, hV⟩, m_end hs hV⟩)
    · have hw := hw.2 c4
      refine a_iconst (pc := 22) C dX6_noLoad_22 ic_2 ?_
      refine a_goto (pc := 23) C 63 dX6_noLoad_23 (by decide) ?_
      exact a_iret C dX6_noLoad_63 (fun h n u hV => ⟨⟨(_, _), rfl, hw, hV⟩, m_end hs hV⟩)
  · have hw := hw.2 c3
    refine a_iconst (pc := 8) C dX6_noLoad_8 ic_1 ?_
    refine a_goto (pc := 9) C 63 dX6_noLoad_9 (by decide) ?_
    exact a_iret C dX6_noLoad_63 (fun h n u hV => ⟨⟨(_, _), rfl, hw, hV⟩, m_end hs hV⟩)
def wp_X6_load (p1 : Int32) (σ : MS) (Q : Int32 → MS → Prop) : Prop := (wp_X6_isLot p1 σ (fun v2 σ1 => (wp_X6_isLot p1 σ1 (fun v4 σ3 => (jn (fun (x7 : Int32) (σ8 : MS) => (wp_X6_goes v2 x7 σ8 (fun v10 σ9 => (((¬ v10 = 0) → (wp_X6_record σ9 (fun σ12 => (wp_X6_brings p1 4 ((-1)) σ12 (fun σ13 => (wp_X6_weightIn 4 σ13 (fun v15 σ14 => (Q v15 σ14)))))))) ∧ ((v10 = 0) → (Q 0 σ9)))))) (fun kj6 => (((v4 = 0) → (kj6 1 σ3)) ∧ ((¬ v4 = 0) → (wp_X6_noLoad p1 σ3 (fun v17 σ16 => (((¬ v17 = 0) → (kj6 0 σ16)) ∧ ((v17 = 0) → (kj6 1 σ16)))))))))))))
theorem sg_X6_load : aSig yX6_load 1 := by decide +kernel
set_option maxHeartbeats 4000000 in
theorem ct_X6_load (l : Launch) (G : aG) (a : Nat) (p1 : Int32)  (σ : MS) (Q : Int32 → MS → Prop) (hw : wp_X6_load p1 σ Q) (h0 : AH) (n0 u0 : Nat) (hV : MV h0 a σ) : CT l yX6_load (ws_ yX6_load cX6_load 2 (some .int)) 5 G [.ref a, .int p1] h0 n0 u0 0 0 (m_pi Q h0 n0 u0 a) := by
  refine CT.intro [some (.ref a), some (.int p1)] pn_RX6 rfl (Nat.le_of_ble_eq_true rfl) ?_
  intro p e s m args below meth c C hz hu
  have hs : s.heap.size = n0 ∧ slT s.heap = u0 := ⟨hz, hu⟩
  refine a_world (V1 := MW h0 n0 u0 a σ) (MW.start hV) ?_
  unfold wp_X6_load at hw
  refine a_aload_0 (pc := 0) C dX6_load_0 ?_
  refine a_aload_0 (pc := 1) C dX6_load_1 ?_
  refine a_iload_1 (pc := 2) C dX6_load_2 ?_
  refine m_callV1i (pc := 3) C hs (fun h n u hV => ct_X6_isLot l G a _ _ _ hw h n u hV) (by decide) (by decide) rfl (lw_V q1836 q1838 qs33 q77 q1839) sg_X6_isLot (Nat.le_of_ble_eq_true rfl) dX6_load_3 (fun v2 σ1 hw => ?_)
  refine a_aload_0 (pc := 6) C dX6_load_6 ?_
  refine a_iload_1 (pc := 7) C dX6_load_7 ?_
  refine m_callV1i (pc := 8) C hs (fun h n u hV => ct_X6_isLot l G a _ _ _ hw h n u hV) (by decide) (by decide) rfl (lw_V q1836 q1838 qs33 q77 q1839) sg_X6_isLot (Nat.le_of_ble_eq_true rfl) dX6_load_8 (fun v4 σ3 hw => ?_)
  refine jn_use hw (fun kj6 ekj6 hw => ?_)
  have hkj6 : ∀ (x7 : Int32) (σ8 : MS), kj6 x7 σ8 → AW G p l e (aRm 5 0 0) s m args below meth c (a_A h0 n0) 2 (MQ below (a_Qc G (m_pi Q h0 n0 u0 a) (a_A h0 n0)) args s 0 0 (a_A h0 n0)) (MW h0 n0 u0 a σ8) 27 [some (.ref a), some (.int p1)] [.int x7, .int v2, .ref a] := by
    intro x7 σ8 hw
    rw [ekj6] at hw
    refine m_callV2i (pc := 27) C hs (fun h n u hV => ct_X6_goes l G a _ _ _ _ hw h n u hV) (by decide) (by decide) rfl (lw_V q1794 q1796 qs29 q77 q1797) sg_X6_goes (Nat.le_of_ble_eq_true rfl) dX6_load_27 (fun v10 σ9 hw => ?_)
    refine a_if_ne (pc := 30) C 35 dX6_load_30 (by decide) (fun c11 => ?_) (fun c11 => ?_)
    · have hw := hw.1 c11
      refine a_aload_0 (pc := 35) C dX6_load_35 ?_
      refine m_callV0v (pc := 36) C hs (fun h n u hV => ct_X6_record l G a  _ _ hw h n u hV) (by decide) (by decide) rfl (lw_V q1813 q1815 qs30 q77 q1816) sg_X6_record (Nat.le_of_ble_eq_true rfl) dX6_load_36 (fun σ12 hw => ?_)
      refine a_aload_0 (pc := 39) C dX6_load_39 ?_
      refine a_iload_1 (pc := 40) C dX6_load_40 ?_
      refine a_iconst (pc := 41) C dX6_load_41 ic_4 ?_
      refine a_iconst (pc := 42) C dX6_load_42 ic_m1 ?_
      refine m_callV3v (pc := 43) C hs (fun h n u hV => ct_X6_brings l G a _ _ _ _ _ hw h n u hV) (by decide) (by decide) rfl (lw_V q1856 q1858 qs38 q77 q1859) sg_X6_brings (Nat.le_of_ble_eq_true rfl) dX6_load_43 (fun σ13 hw => ?_)
      refine a_aload_0 (pc := 46) C dX6_load_46 ?_
      refine a_iconst (pc := 47) C dX6_load_47 ic_4 ?_
      refine m_callV1i (pc := 48) C hs (fun h n u hV => ct_X6_weightIn l G a _ _ _ hw h n u hV) (by decide) (by decide) rfl (lw_V q1902 q1904 qs45 q77 q1905) sg_X6_weightIn (Nat.le_of_ble_eq_true rfl) dX6_load_48 (fun v15 σ14 hw => ?_)
      exact a_iret C dX6_load_51 (fun h n u hV => ⟨⟨(_, _), rfl, hw, hV⟩, m_end hs hV⟩)
    · have hw := hw.2 c11
      refine a_iconst (pc := 33) C dX6_load_33 ic_0 ?_
      exact a_iret C dX6_load_34 (fun h n u hV => ⟨⟨(_, _), rfl, hw, hV⟩, m_end hs hV⟩)
  refine a_if_eq (pc := 11) C 22 dX6_load_11 (by decide) (fun c5 => ?_) (fun c5 => ?_)
  · have hw := hw.1 c5
    refine a_iconst (pc := 22) C dX6_load_22 ic_1 ?_
    refine a_goto (pc := 23) C 27 dX6_load_23 (by decide) ?_
    exact hkj6 _ _ hw
  · have hw := hw.2 c5
    refine a_aload_0 (pc := 14) C dX6_load_14 ?_
    refine a_iload_1 (pc := 15) C dX6_load_15 ?_
    refine m_callV1i (pc := 16) C hs (fun h n u hV => ct_X6_noLoad l G a _ _ _ hw h n u hV) (by decide) (by decide) rfl (lw_V q1898 q1900 qs44 q77 q1901) sg_X6_noLoad (Nat.le_of_ble_eq_true rfl) dX6_load_16 (fun v17 σ16 hw => ?_)
    refine a_if_ne (pc := 19) C 26 dX6_load_19 (by decide) (fun c18 => ?_) (fun c18 => ?_)
    · have hw := hw.1 c18
      refine a_iconst (pc := 26) C dX6_load_26 ic_0 ?_
      exact hkj6 _ _ hw
    · have hw := hw.2 c18
      refine a_iconst (pc := 22) C dX6_load_22 ic_1 ?_
      refine a_goto (pc := 23) C 27 dX6_load_23 (by decide) ?_
      exact hkj6 _ _ hw
def wp_X6_canLight (σ : MS) (Q : Int32 → MS → Prop) : Prop := (vp_in 1 (mLen 0) ∧ (((¬ (σ 0 (1 : Int32).toNatClampNeg) = 0) → (Q 0 σ)) ∧ (((σ 0 (1 : Int32).toNatClampNeg) = 0) → (wp_X6_countIn 4 σ (fun v3 σ2 => (((v3 ≤ 0) → (Q 0 σ2)) ∧ ((¬ v3 ≤ 0) → (Q 1 σ2))))))))
theorem sg_X6_canLight : aSig yX6_canLight 0 := by decide +kernel
set_option maxHeartbeats 4000000 in
theorem ct_X6_canLight (l : Launch) (G : aG) (a : Nat)   (σ : MS) (Q : Int32 → MS → Prop) (hw : wp_X6_canLight  σ Q) (h0 : AH) (n0 u0 : Nat) (hV : MV h0 a σ) : CT l yX6_canLight (ws_ yX6_canLight cX6_canLight 1 (some .boolean)) 3 G [.ref a] h0 n0 u0 0 0 (m_pi Q h0 n0 u0 a) := by
  refine CT.intro [some (.ref a)] pn_RX6 rfl (Nat.le_of_ble_eq_true rfl) ?_
  intro p e s m args below meth c C hz hu
  have hs : s.heap.size = n0 ∧ slT s.heap = u0 := ⟨hz, hu⟩
  refine a_world (V1 := MW h0 n0 u0 a σ) (MW.start hV) ?_
  unfold wp_X6_canLight at hw
  refine a_aload_0 (pc := 0) C dX6_canLight_0 ?_
  refine m_get_z (pc := 1) C q1758 dX6_canLight_1 ?_
  refine a_iconst (pc := 4) C dX6_canLight_4 ic_1 ?_
  refine m_iald (pc := 5) C (by decide) hw.1 dX6_canLight_5 ?_
  have hw := hw.2
  refine a_if_ne (pc := 6) C 21 dX6_canLight_6 (by decide) (fun c1 => ?_) (fun c1 => ?_)
  · have hw := hw.1 c1
    refine a_iconst (pc := 21) C dX6_canLight_21 ic_0 ?_
    exact a_zret rfl C dX6_canLight_22 (fun h n u hV => ⟨⟨(_, _), rfl, hw, hV⟩, m_end hs hV⟩)
  · have hw := hw.2 c1
    refine a_aload_0 (pc := 9) C dX6_canLight_9 ?_
    refine a_iconst (pc := 10) C dX6_canLight_10 ic_4 ?_
    refine m_callV1i (pc := 11) C hs (fun h n u hV => ct_X6_countIn l G a _ _ _ hw h n u hV) (by decide) (by decide) rfl (lw_V q1848 q1850 qs36 q77 q1851) sg_X6_countIn (Nat.le_of_ble_eq_true rfl) dX6_canLight_11 (fun v3 σ2 hw => ?_)
    refine a_if_le (pc := 14) C 21 dX6_canLight_14 (by decide) (fun c4 => ?_) (fun c4 => ?_)
    · have hw := hw.1 c4
      refine a_iconst (pc := 21) C dX6_canLight_21 ic_0 ?_
      exact a_zret rfl C dX6_canLight_22 (fun h n u hV => ⟨⟨(_, _), rfl, hw, hV⟩, m_end hs hV⟩)
    · have hw := hw.2 c4
      refine a_iconst (pc := 17) C dX6_canLight_17 ic_1 ?_
      refine a_goto (pc := 18) C 22 dX6_canLight_18 (by decide) ?_
      exact a_zret rfl C dX6_canLight_22 (fun h n u hV => ⟨⟨(_, _), rfl, hw, hV⟩, m_end hs hV⟩)
def wp_X6_light (σ : MS) (Q : Int32 → MS → Prop) : Prop := (wp_X6_canLight σ (fun v2 σ1 => (wp_X6_goes v2 1 σ1 (fun v4 σ3 => (((¬ v4 = 0) → (wp_X6_record σ3 (fun σ6 => (vp_in 1 (mLen 0) ∧ ∀ σ7 : MS, σ7 = mU σ6 0 (1 : Int32).toNatClampNeg 1 → (wp_X6_countIn 4 σ7 (fun v9 σ8 => (Q v9 σ8))))))) ∧ ((v4 = 0) → (Q 0 σ3)))))))
theorem sg_X6_light : aSig yX6_light 0 := by decide +kernel
set_option maxHeartbeats 4000000 in
theorem ct_X6_light (l : Launch) (G : aG) (a : Nat)   (σ : MS) (Q : Int32 → MS → Prop) (hw : wp_X6_light  σ Q) (h0 : AH) (n0 u0 : Nat) (hV : MV h0 a σ) : CT l yX6_light (ws_ yX6_light cX6_light 1 (some .int)) 4 G [.ref a] h0 n0 u0 0 0 (m_pi Q h0 n0 u0 a) := by
  refine CT.intro [some (.ref a)] pn_RX6 rfl (Nat.le_of_ble_eq_true rfl) ?_
  intro p e s m args below meth c C hz hu
  have hs : s.heap.size = n0 ∧ slT s.heap = u0 := ⟨hz, hu⟩
  refine a_world (V1 := MW h0 n0 u0 a σ) (MW.start hV) ?_
  unfold wp_X6_light at hw
  refine a_aload_0 (pc := 0) C dX6_light_0 ?_
  refine a_aload_0 (pc := 1) C dX6_light_1 ?_
  refine m_callV0i (pc := 2) C hs (fun h n u hV => ct_X6_canLight l G a  _ _ hw h n u hV) (by decide) (by decide) rfl (lw_V q1914 q1916 qs47 q77 q1917) sg_X6_canLight (Nat.le_of_ble_eq_true rfl) dX6_light_2 (fun v2 σ1 hw => ?_)
  refine a_iconst (pc := 5) C dX6_light_5 ic_1 ?_
  refine m_callV2i (pc := 6) C hs (fun h n u hV => ct_X6_goes l G a _ _ _ _ hw h n u hV) (by decide) (by decide) rfl (lw_V q1794 q1796 qs29 q77 q1797) sg_X6_goes (Nat.le_of_ble_eq_true rfl) dX6_light_6 (fun v4 σ3 hw => ?_)
  refine a_if_ne (pc := 9) C 14 dX6_light_9 (by decide) (fun c5 => ?_) (fun c5 => ?_)
  · have hw := hw.1 c5
    refine a_aload_0 (pc := 14) C dX6_light_14 ?_
    refine m_callV0v (pc := 15) C hs (fun h n u hV => ct_X6_record l G a  _ _ hw h n u hV) (by decide) (by decide) rfl (lw_V q1813 q1815 qs30 q77 q1816) sg_X6_record (Nat.le_of_ble_eq_true rfl) dX6_light_15 (fun σ6 hw => ?_)
    refine a_aload_0 (pc := 18) C dX6_light_18 ?_
    refine m_get_z (pc := 19) C q1758 dX6_light_19 ?_
    refine a_iconst (pc := 22) C dX6_light_22 ic_1 ?_
    refine a_iconst (pc := 23) C dX6_light_23 ic_1 ?_
    refine m_iast (pc := 24) C (by decide) hw.1 dX6_light_24 (fun σ7 eσ7 => ?_)
    have hw := hw.2 σ7 eσ7
    refine a_aload_0 (pc := 25) C dX6_light_25 ?_
    refine a_iconst (pc := 26) C dX6_light_26 ic_4 ?_
    refine m_callV1i (pc := 27) C hs (fun h n u hV => ct_X6_countIn l G a _ _ _ hw h n u hV) (by decide) (by decide) rfl (lw_V q1848 q1850 qs36 q77 q1851) sg_X6_countIn (Nat.le_of_ble_eq_true rfl) dX6_light_27 (fun v9 σ8 hw => ?_)
    exact a_iret C dX6_light_30 (fun h n u hV => ⟨⟨(_, _), rfl, hw, hV⟩, m_end hs hV⟩)
  · have hw := hw.2 c5
    refine a_iconst (pc := 12) C dX6_light_12 ic_0 ?_
    exact a_iret C dX6_light_13 (fun h n u hV => ⟨⟨(_, _), rfl, hw, hV⟩, m_end hs hV⟩)
def wp_X6_setting (p1 : Int32) (p2 : Int32) (σ : MS) (Q : Int32 → MS → Prop) : Prop := (wp_X6_of p1 0 σ (fun v2 σ1 => (((¬ v2 = 2) → (((¬ p2 = 1) → (Q 0 σ1)) ∧ ((p2 = 1) → (Q 3 σ1)))) ∧ ((v2 = 2) → (wp_X6_of p1 1 σ1 (fun v6 σ5 => (vp_in ((32 + (3 * v6)) + p2) (mLen 0) ∧ (Q (σ5 0 ((32 + (3 * v6)) + p2).toNatClampNeg) σ5))))))))
theorem sg_X6_setting : aSig yX6_setting 2 := by decide +kernel
set_option maxHeartbeats 4000000 in
theorem ct_X6_setting (l : Launch) (G : aG) (a : Nat) (p1 : Int32) (p2 : Int32)  (σ : MS) (Q : Int32 → MS → Prop) (hw : wp_X6_setting p1 p2 σ Q) (h0 : AH) (n0 u0 : Nat) (hV : MV h0 a σ) : CT l yX6_setting (ws_ yX6_setting cX6_setting 3 (some .int)) 2 G [.ref a, .int p1, .int p2] h0 n0 u0 0 0 (m_pi Q h0 n0 u0 a) := by
  refine CT.intro [some (.ref a), some (.int p1), some (.int p2)] pn_RX6 rfl (Nat.le_of_ble_eq_true rfl) ?_
  intro p e s m args below meth c C hz hu
  have hs : s.heap.size = n0 ∧ slT s.heap = u0 := ⟨hz, hu⟩
  refine a_world (V1 := MW h0 n0 u0 a σ) (MW.start hV) ?_
  unfold wp_X6_setting at hw
  refine a_aload_0 (pc := 0) C dX6_setting_0 ?_
  refine a_iload_1 (pc := 1) C dX6_setting_1 ?_
  refine a_iconst (pc := 2) C dX6_setting_2 ic_0 ?_
  refine m_callV2i (pc := 3) C hs (fun h n u hV => ct_X6_of l G a _ _ _ _ hw h n u hV) (by decide) (by decide) rfl (lw_V q1844 q1846 qs35 q77 q1847) sg_X6_of (Nat.le_of_ble_eq_true rfl) dX6_setting_3 (fun v2 σ1 hw => ?_)
  refine a_iconst (pc := 6) C dX6_setting_6 ic_2 ?_
  refine a_icmp_ne (pc := 7) C 31 dX6_setting_7 (by decide) (fun c3 => ?_) (fun c3 => ?_)
  · have hw := hw.1 c3
    refine a_iload_2 (pc := 31) C dX6_setting_31 ?_
    refine a_iconst (pc := 32) C dX6_setting_32 ic_1 ?_
    refine a_icmp_ne (pc := 33) C 40 dX6_setting_33 (by decide) (fun c4 => ?_) (fun c4 => ?_)
    · have hw := hw.1 c4
      refine a_iconst (pc := 40) C dX6_setting_40 ic_0 ?_
      exact a_iret C dX6_setting_41 (fun h n u hV => ⟨⟨(_, _), rfl, hw, hV⟩, m_end hs hV⟩)
    · have hw := hw.2 c4
      refine a_iconst (pc := 36) C dX6_setting_36 ic_3 ?_
      refine a_goto (pc := 37) C 41 dX6_setting_37 (by decide) ?_
      exact a_iret C dX6_setting_41 (fun h n u hV => ⟨⟨(_, _), rfl, hw, hV⟩, m_end hs hV⟩)
  · have hw := hw.2 c3
    refine a_aload_0 (pc := 10) C dX6_setting_10 ?_
    refine m_get_z (pc := 11) C q1758 dX6_setting_11 ?_
    refine a_bipush (pc := 14) C dX6_setting_14 bc_32 ?_
    refine a_iconst (pc := 16) C dX6_setting_16 ic_3 ?_
    refine a_aload_0 (pc := 17) C dX6_setting_17 ?_
    refine a_iload_1 (pc := 18) C dX6_setting_18 ?_
    refine a_iconst (pc := 19) C dX6_setting_19 ic_1 ?_
    refine m_callV2i (pc := 20) C hs (fun h n u hV => ct_X6_of l G a _ _ _ _ hw h n u hV) (by decide) (by decide) rfl (lw_V q1844 q1846 qs35 q77 q1847) sg_X6_of (Nat.le_of_ble_eq_true rfl) dX6_setting_20 (fun v6 σ5 hw => ?_)
    refine a_imul (pc := 23) C dX6_setting_23 ?_
    refine a_iadd (pc := 24) C dX6_setting_24 ?_
    refine a_iload_2 (pc := 25) C dX6_setting_25 ?_
    refine a_iadd (pc := 26) C dX6_setting_26 ?_
    refine m_iald (pc := 27) C (by decide) hw.1 dX6_setting_27 ?_
    have hw := hw.2
    refine a_goto (pc := 28) C 41 dX6_setting_28 (by decide) ?_
    exact a_iret C dX6_setting_41 (fun h n u hV => ⟨⟨(_, _), rfl, hw, hV⟩, m_end hs hV⟩)
def wp_X6_noSpray (p1 : Int32) (σ : MS) (Q : Int32 → MS → Prop) : Prop := (wp_X6_isGrowing p1 σ (fun v2 σ1 => (((¬ v2 = 0) → (vp_in 6 (mLen 0) ∧ (((¬ (σ1 0 (6 : Int32).toNatClampNeg) = 0) → (wp_X6_of p1 0 σ1 (fun v6 σ5 => (((¬ v6 = 2) → (Q 0 σ5)) ∧ ((v6 = 2) → (wp_X6_setting p1 2 σ5 (fun v9 σ8 => (((¬ v9 = 0) → (Q 0 σ8)) ∧ ((v9 = 0) → (Q 3 σ8)))))))))) ∧ (((σ1 0 (6 : Int32).toNatClampNeg) = 0) → (Q 2 σ1))))) ∧ ((v2 = 0) → (Q 1 σ1)))))
theorem sg_X6_noSpray : aSig yX6_noSpray 1 := by decide +kernel
set_option maxHeartbeats 4000000 in
theorem ct_X6_noSpray (l : Launch) (G : aG) (a : Nat) (p1 : Int32)  (σ : MS) (Q : Int32 → MS → Prop) (hw : wp_X6_noSpray p1 σ Q) (h0 : AH) (n0 u0 : Nat) (hV : MV h0 a σ) : CT l yX6_noSpray (ws_ yX6_noSpray cX6_noSpray 2 (some .int)) 3 G [.ref a, .int p1] h0 n0 u0 0 0 (m_pi Q h0 n0 u0 a) := by
  refine CT.intro [some (.ref a), some (.int p1)] pn_RX6 rfl (Nat.le_of_ble_eq_true rfl) ?_
  intro p e s m args below meth c C hz hu
  have hs : s.heap.size = n0 ∧ slT s.heap = u0 := ⟨hz, hu⟩
  refine a_world (V1 := MW h0 n0 u0 a σ) (MW.start hV) ?_
  unfold wp_X6_noSpray at hw
  refine a_aload_0 (pc := 0) C dX6_noSpray_0 ?_
  refine a_iload_1 (pc := 1) C dX6_noSpray_1 ?_
  refine m_callV1i (pc := 2) C hs (fun h n u hV => ct_X6_isGrowing l G a _ _ _ hw h n u hV) (by decide) (by decide) rfl (lw_V q1878 q1880 qs41 q77 q1881) sg_X6_isGrowing (Nat.le_of_ble_eq_true rfl) dX6_noSpray_2 (fun v2 σ1 hw => ?_)
  refine a_if_ne (pc := 5) C 12 dX6_noSpray_5 (by decide) (fun c3 => ?_) (fun c3 => ?_)
  · have hw := hw.1 c3
    refine a_aload_0 (pc := 12) C dX6_noSpray_12 ?_
    refine m_get_z (pc := 13) C q1758 dX6_noSpray_13 ?_
    refine a_bipush (pc := 16) C dX6_noSpray_16 bc_6 ?_
    refine m_iald (pc := 18) C (by decide) hw.1 dX6_noSpray_18 ?_
    have hw := hw.2
    refine a_if_ne (pc := 19) C 26 dX6_noSpray_19 (by decide) (fun c4 => ?_) (fun c4 => ?_)
    · have hw := hw.1 c4
      refine a_aload_0 (pc := 26) C dX6_noSpray_26 ?_
      refine a_iload_1 (pc := 27) C dX6_noSpray_27 ?_
      refine a_iconst (pc := 28) C dX6_noSpray_28 ic_0 ?_
      refine m_callV2i (pc := 29) C hs (fun h n u hV => ct_X6_of l G a _ _ _ _ hw h n u hV) (by decide) (by decide) rfl (lw_V q1844 q1846 qs35 q77 q1847) sg_X6_of (Nat.le_of_ble_eq_true rfl) dX6_noSpray_29 (fun v6 σ5 hw => ?_)
      refine a_iconst (pc := 32) C dX6_noSpray_32 ic_2 ?_
      refine a_icmp_ne (pc := 33) C 49 dX6_noSpray_33 (by decide) (fun c7 => ?_) (fun c7 => ?_)
      · have hw := hw.1 c7
        refine a_iconst (pc := 49) C dX6_noSpray_49 ic_0 ?_
        exact a_iret C dX6_noSpray_50 (fun h n u hV => ⟨⟨(_, _), rfl, hw, hV⟩, m_end hs hV⟩)
      · have hw := hw.2 c7
        refine a_aload_0 (pc := 36) C dX6_noSpray_36 ?_
        refine a_iload_1 (pc := 37) C dX6_noSpray_37 ?_
        refine a_iconst (pc := 38) C dX6_noSpray_38 ic_2 ?_
        refine m_callV2i (pc := 39) C hs (fun h n u hV => ct_X6_setting l G a _ _ _ _ hw h n u hV) (by decide) (by decide) rfl (lw_V q1926 q1928 qs49 q77 q1929) sg_X6_setting (Nat.le_of_ble_eq_true rfl) dX6_noSpray_39 (fun v9 σ8 hw => ?_)
        refine a_if_ne (pc := 42) C 49 dX6_noSpray_42 (by decide) (fun c10 => ?_) (fun c10 => ?_)
        · have hw := hw.1 c10
          refine a_iconst (pc := 49) C dX6_noSpray_49 ic_0 ?_
          exact a_iret C dX6_noSpray_50 (fun h n u hV => ⟨⟨(_, _), rfl, hw, hV⟩, m_end hs hV⟩)
        · have hw := hw.2 c10
          refine a_iconst (pc := 45) C dX6_noSpray_45 ic_3 ?_
          refine a_goto (pc := 46) C 50 dX6_noSpray_46 (by decide) ?_
          exact a_iret C dX6_noSpray_50 (fun h n u hV => ⟨⟨(_, _), rfl, hw, hV⟩, m_end hs hV⟩)
    · have hw := hw.2 c4
      refine a_iconst (pc := 22) C dX6_noSpray_22 ic_2 ?_
      refine a_goto (pc := 23) C 50 dX6_noSpray_23 (by decide) ?_
      exact a_iret C dX6_noSpray_50 (fun h n u hV => ⟨⟨(_, _), rfl, hw, hV⟩, m_end hs hV⟩)
  · have hw := hw.2 c3
    refine a_iconst (pc := 8) C dX6_noSpray_8 ic_1 ?_
    refine a_goto (pc := 9) C 50 dX6_noSpray_9 (by decide) ?_
    exact a_iret C dX6_noSpray_50 (fun h n u hV => ⟨⟨(_, _), rfl, hw, hV⟩, m_end hs hV⟩)
def wp_X6_most (p1 : Int32) (p2 : Int32) (Q : Int32 → Prop) : Prop := (((p1 ≤ p2) → (Q p2)) ∧ ((¬ p1 ≤ p2) → (Q p1)))
theorem sg_X6_most : aSig yX6_most 2 := by decide +kernel
set_option maxHeartbeats 4000000 in
theorem ct_X6_most (l : Launch) (G : aG) (p1 : Int32) (p2 : Int32)  (Q : Int32 → Prop) (hw : wp_X6_most p1 p2 Q) (h0 : AH) (n0 u0 : Nat) : CT l yX6_most (ws_ yX6_most cX6_most 2 (some .int)) 1 G [.int p1, .int p2] h0 n0 u0 0 0 (s_pi Q h0 n0 u0) := by
  refine CT.intro [some (.int p1), some (.int p2)] pn_RX6 rfl (Nat.le_of_ble_eq_true rfl) ?_
  intro p e s m args below meth c C hz hu
  have hs : s.heap.size = n0 ∧ slT s.heap = u0 := ⟨hz, hu⟩
  unfold wp_X6_most at hw
  refine a_iload_0 (pc := 0) C dX6_most_0 ?_
  refine a_iload_1 (pc := 1) C dX6_most_1 ?_
  refine a_icmp_le (pc := 2) C 9 dX6_most_2 (by decide) (fun c1 => ?_) (fun c1 => ?_)
  · have hw := hw.1 c1
    refine a_iload_1 (pc := 9) C dX6_most_9 ?_
    exact a_iret C dX6_most_10 (fun h n u hV => ⟨⟨_, rfl, hw, hV⟩, s_end hs hV⟩)
  · have hw := hw.2 c1
    refine a_iload_0 (pc := 5) C dX6_most_5 ?_
    refine a_goto (pc := 6) C 10 dX6_most_6 (by decide) ?_
    exact a_iret C dX6_most_10 (fun h n u hV => ⟨⟨_, rfl, hw, hV⟩, s_end hs hV⟩)
def wp_X6_wets (p1 : Int32) (σ : MS) (Q : MS → Prop) : Prop := (wp_X6_of p1 4 σ (fun v2 σ1 => (wp_X6_of p1 6 σ1 (fun v4 σ3 => (jn (fun (x7 : Int32) => (wp_X6_sets p1 4 x7 σ3 (fun σ8 => (jn (fun (x11 : Int32) => (wp_X6_sets p1 6 x11 σ8 (fun σ12 => (vp_in 6 (mLen 0) ∧ (vp_in 6 (mLen 0) ∧ ∀ σ13 : MS, σ13 = mU σ12 0 (6 : Int32).toNatClampNeg ((σ12 0 (6 : Int32).toNatClampNeg) - 1) → (vp_in 13 (mLen 0) ∧ (vp_in 13 (mLen 0) ∧ ∀ σ14 : MS, σ14 = mU σ13 0 (13 : Int32).toNatClampNeg ((σ13 0 (13 : Int32).toNatClampNeg) + 1) → (wp_X6_books 5 p1 σ14 (fun σ15 => (Q σ15)))))))))) (fun kj10 => (((10 ≤ v4) → (wp_X6_most 10 (v4 - 2) (fun v16 => (kj10 v16)))) ∧ ((¬ 10 ≤ v4) → (kj10 v4)))))))) (fun kj6 => (((v2 ≤ 48) → (wp_X6_least 48 (v2 + 3) (fun v17 => (kj6 v17)))) ∧ ((¬ v2 ≤ 48) → (kj6 v2)))))))))
theorem sg_X6_wets : aSig yX6_wets 1 := by decide +kernel
set_option maxHeartbeats 4000000 in
theorem ct_X6_wets (l : Launch) (G : aG) (a : Nat) (p1 : Int32)  (σ : MS) (Q : MS → Prop) (hw : wp_X6_wets p1 σ Q) (h0 : AH) (n0 u0 : Nat) (hV : MV h0 a σ) : CT l yX6_wets (ws_ yX6_wets cX6_wets 4 none) 3 G [.ref a, .int p1] h0 n0 u0 0 0 (m_pv Q h0 n0 u0 a) := by
  refine CT.intro [some (.ref a), some (.int p1), none, none] pn_RX6 rfl (Nat.le_of_ble_eq_true rfl) ?_
  intro p e s m args below meth c C hz hu
  have hs : s.heap.size = n0 ∧ slT s.heap = u0 := ⟨hz, hu⟩
  refine a_world (V1 := MW h0 n0 u0 a σ) (MW.start hV) ?_
  unfold wp_X6_wets at hw
  refine a_aload_0 (pc := 0) C dX6_wets_0 ?_
  refine a_iload_1 (pc := 1) C dX6_wets_1 ?_
  refine a_iconst (pc := 2) C dX6_wets_2 ic_4 ?_
  refine m_callV2i (pc := 3) C hs (fun h n u hV => ct_X6_of l G a _ _ _ _ hw h n u hV) (by decide) (by decide) rfl (lw_V q1844 q1846 qs35 q77 q1847) sg_X6_of (Nat.le_of_ble_eq_true rfl) dX6_wets_3 (fun v2 σ1 hw => ?_)
  refine a_istore_2 (pc := 6) C dX6_wets_6 (by decide) rfl ?_
  refine a_aload_0 (pc := 7) C dX6_wets_7 ?_
  refine a_iload_1 (pc := 8) C dX6_wets_8 ?_
  refine a_bipush (pc := 9) C dX6_wets_9 bc_6 ?_
  refine m_callV2i (pc := 11) C hs (fun h n u hV => ct_X6_of l G a _ _ _ _ hw h n u hV) (by decide) (by decide) rfl (lw_V q1844 q1846 qs35 q77 q1847) sg_X6_of (Nat.le_of_ble_eq_true rfl) dX6_wets_11 (fun v4 σ3 hw => ?_)
  refine a_istore_3 (pc := 14) C dX6_wets_14 (by decide) rfl ?_
  refine a_aload_0 (pc := 15) C dX6_wets_15 ?_
  refine a_iload_1 (pc := 16) C dX6_wets_16 ?_
  refine a_iconst (pc := 17) C dX6_wets_17 ic_4 ?_
  refine a_iload_2 (pc := 18) C dX6_wets_18 ?_
  refine a_bipush (pc := 19) C dX6_wets_19 bc_48 ?_
  refine jn_use hw (fun kj6 ekj6 hw => ?_)
  have hkj6 : ∀ (x7 : Int32), kj6 x7 → AW G p l e (aRm 3 0 0) s m args below meth c (a_A h0 n0) 4 (MQ below (a_Qc G (m_pv Q h0 n0 u0 a) (a_A h0 n0)) args s 0 0 (a_A h0 n0)) (MW h0 n0 u0 a σ3) 36 [some (.ref a), some (.int p1), some (.int v2), some (.int v4)] [.int x7, .int 4, .int p1, .ref a] := by
    intro x7 hw
    rw [ekj6] at hw
    refine m_callV3v (pc := 36) C hs (fun h n u hV => ct_X6_sets l G a _ _ _ _ _ hw h n u hV) (by decide) (by decide) rfl (lw_V q1828 q1830 qs32 q77 q1831) sg_X6_sets (Nat.le_of_ble_eq_true rfl) dX6_wets_36 (fun σ8 hw => ?_)
    refine a_aload_0 (pc := 39) C dX6_wets_39 ?_
    refine a_iload_1 (pc := 40) C dX6_wets_40 ?_
    refine a_bipush (pc := 41) C dX6_wets_41 bc_6 ?_
    refine a_iload_3 (pc := 43) C dX6_wets_43 ?_
    refine a_bipush (pc := 44) C dX6_wets_44 bc_10 ?_
    refine jn_use hw (fun kj10 ekj10 hw => ?_)
    have hkj10 : ∀ (x11 : Int32), kj10 x11 → AW G p l e (aRm 3 0 0) s m args below meth c (a_A h0 n0) 4 (MQ below (a_Qc G (m_pv Q h0 n0 u0 a) (a_A h0 n0)) args s 0 0 (a_A h0 n0)) (MW h0 n0 u0 a σ8) 61 [some (.ref a), some (.int p1), some (.int v2), some (.int v4)] [.int x11, .int 6, .int p1, .ref a] := by
      intro x11 hw
      rw [ekj10] at hw
      refine m_callV3v (pc := 61) C hs (fun h n u hV => ct_X6_sets l G a _ _ _ _ _ hw h n u hV) (by decide) (by decide) rfl (lw_V q1828 q1830 qs32 q77 q1831) sg_X6_sets (Nat.le_of_ble_eq_true rfl) dX6_wets_61 (fun σ12 hw => ?_)
      refine a_aload_0 (pc := 64) C dX6_wets_64 ?_
      refine m_get_z (pc := 65) C q1758 dX6_wets_65 ?_
      refine a_bipush (pc := 68) C dX6_wets_68 bc_6 ?_
      refine a_dup2 (pc := 70) C dX6_wets_70 rfl rfl ?_
      refine m_iald (pc := 71) C (by decide) hw.1 dX6_wets_71 ?_
      have hw := hw.2
      refine a_iconst (pc := 72) C dX6_wets_72 ic_1 ?_
      refine a_isub (pc := 73) C dX6_wets_73 ?_
      refine m_iast (pc := 74) C (by decide) hw.1 dX6_wets_74 (fun σ13 eσ13 => ?_)
      have hw := hw.2 σ13 eσ13
      refine a_aload_0 (pc := 75) C dX6_wets_75 ?_
      refine m_get_z (pc := 76) C q1758 dX6_wets_76 ?_
      refine a_bipush (pc := 79) C dX6_wets_79 bc_13 ?_
      refine a_dup2 (pc := 81) C dX6_wets_81 rfl rfl ?_
      refine m_iald (pc := 82) C (by decide) hw.1 dX6_wets_82 ?_
      have hw := hw.2
      refine a_iconst (pc := 83) C dX6_wets_83 ic_1 ?_
      refine a_iadd (pc := 84) C dX6_wets_84 ?_
      refine m_iast (pc := 85) C (by decide) hw.1 dX6_wets_85 (fun σ14 eσ14 => ?_)
      have hw := hw.2 σ14 eσ14
      refine a_aload_0 (pc := 86) C dX6_wets_86 ?_
      refine a_iconst (pc := 87) C dX6_wets_87 ic_5 ?_
      refine a_iload_1 (pc := 88) C dX6_wets_88 ?_
      refine m_callV2v (pc := 89) C hs (fun h n u hV => ct_X6_books l G a _ _ _ _ hw h n u hV) (by decide) (by decide) rfl (lw_V q1860 q1862 qs39 q77 q1863) sg_X6_books (Nat.le_of_ble_eq_true rfl) dX6_wets_89 (fun σ15 hw => ?_)
      exact a_vret C dX6_wets_92 (fun h n u hV => ⟨⟨_, rfl, hw, hV⟩, m_end hs hV⟩)
    refine a_icmp_ge (pc := 46) C 53 dX6_wets_46 (by decide) (fun c9 => ?_) (fun c9 => ?_)
    · have hw := hw.1 c9
      refine a_bipush (pc := 53) C dX6_wets_53 bc_10 ?_
      refine a_iload_3 (pc := 55) C dX6_wets_55 ?_
      refine a_iconst (pc := 56) C dX6_wets_56 ic_2 ?_
      refine a_isub (pc := 57) C dX6_wets_57 ?_
      refine m_callS2p (pc := 58) C hs (fun h n u => ct_X6_most l G _ _ _ hw h n u) (by decide) (by decide) (lw_S q1934 q1935 q77 q1936) sg_X6_most (Nat.le_of_ble_eq_true rfl) dX6_wets_58 (fun v16 hw => ?_)
      exact hkj10 _ hw
    · have hw := hw.2 c9
      refine a_iload_3 (pc := 49) C dX6_wets_49 ?_
      refine a_goto (pc := 50) C 61 dX6_wets_50 (by decide) ?_
      exact hkj10 _ hw
  refine a_icmp_le (pc := 21) C 28 dX6_wets_21 (by decide) (fun c5 => ?_) (fun c5 => ?_)
  · have hw := hw.1 c5
    refine a_bipush (pc := 28) C dX6_wets_28 bc_48 ?_
    refine a_iload_2 (pc := 30) C dX6_wets_30 ?_
    refine a_iconst (pc := 31) C dX6_wets_31 ic_3 ?_
    refine a_iadd (pc := 32) C dX6_wets_32 ?_
    refine m_callS2p (pc := 33) C hs (fun h n u => ct_X6_least l G _ _ _ hw h n u) (by decide) (by decide) (lw_S q1864 q1865 q77 q1866) sg_X6_least (Nat.le_of_ble_eq_true rfl) dX6_wets_33 (fun v17 hw => ?_)
    exact hkj6 _ hw
  · have hw := hw.2 c5
    refine a_iload_2 (pc := 24) C dX6_wets_24 ?_
    refine a_goto (pc := 25) C 36 dX6_wets_25 (by decide) ?_
    exact hkj6 _ hw
def wp_X6_spray (p1 : Int32) (σ : MS) (Q : Int32 → MS → Prop) : Prop := (wp_X6_isLot p1 σ (fun v2 σ1 => (wp_X6_isLot p1 σ1 (fun v4 σ3 => (jn (fun (x7 : Int32) (σ8 : MS) => (wp_X6_goes v2 x7 σ8 (fun v10 σ9 => (((¬ v10 = 0) → (wp_X6_record σ9 (fun σ12 => (wp_X6_wets p1 σ12 (fun σ13 => (vp_in 6 (mLen 0) ∧ (Q (σ13 0 (6 : Int32).toNatClampNeg) σ13))))))) ∧ ((v10 = 0) → (Q 0 σ9)))))) (fun kj6 => (((v4 = 0) → (kj6 1 σ3)) ∧ ((¬ v4 = 0) → (wp_X6_noSpray p1 σ3 (fun v15 σ14 => (((¬ v15 = 0) → (kj6 0 σ14)) ∧ ((v15 = 0) → (kj6 1 σ14)))))))))))))
theorem sg_X6_spray : aSig yX6_spray 1 := by decide +kernel
set_option maxHeartbeats 4000000 in
theorem ct_X6_spray (l : Launch) (G : aG) (a : Nat) (p1 : Int32)  (σ : MS) (Q : Int32 → MS → Prop) (hw : wp_X6_spray p1 σ Q) (h0 : AH) (n0 u0 : Nat) (hV : MV h0 a σ) : CT l yX6_spray (ws_ yX6_spray cX6_spray 2 (some .int)) 4 G [.ref a, .int p1] h0 n0 u0 0 0 (m_pi Q h0 n0 u0 a) := by
  refine CT.intro [some (.ref a), some (.int p1)] pn_RX6 rfl (Nat.le_of_ble_eq_true rfl) ?_
  intro p e s m args below meth c C hz hu
  have hs : s.heap.size = n0 ∧ slT s.heap = u0 := ⟨hz, hu⟩
  refine a_world (V1 := MW h0 n0 u0 a σ) (MW.start hV) ?_
  unfold wp_X6_spray at hw
  refine a_aload_0 (pc := 0) C dX6_spray_0 ?_
  refine a_aload_0 (pc := 1) C dX6_spray_1 ?_
  refine a_iload_1 (pc := 2) C dX6_spray_2 ?_
  refine m_callV1i (pc := 3) C hs (fun h n u hV => ct_X6_isLot l G a _ _ _ hw h n u hV) (by decide) (by decide) rfl (lw_V q1836 q1838 qs33 q77 q1839) sg_X6_isLot (Nat.le_of_ble_eq_true rfl) dX6_spray_3 (fun v2 σ1 hw => ?_)
  refine a_aload_0 (pc := 6) C dX6_spray_6 ?_
  refine a_iload_1 (pc := 7) C dX6_spray_7 ?_
  refine m_callV1i (pc := 8) C hs (fun h n u hV => ct_X6_isLot l G a _ _ _ hw h n u hV) (by decide) (by decide) rfl (lw_V q1836 q1838 qs33 q77 q1839) sg_X6_isLot (Nat.le_of_ble_eq_true rfl) dX6_spray_8 (fun v4 σ3 hw => ?_)
  refine jn_use hw (fun kj6 ekj6 hw => ?_)
  have hkj6 : ∀ (x7 : Int32) (σ8 : MS), kj6 x7 σ8 → AW G p l e (aRm 4 0 0) s m args below meth c (a_A h0 n0) 2 (MQ below (a_Qc G (m_pi Q h0 n0 u0 a) (a_A h0 n0)) args s 0 0 (a_A h0 n0)) (MW h0 n0 u0 a σ8) 27 [some (.ref a), some (.int p1)] [.int x7, .int v2, .ref a] := by
    intro x7 σ8 hw
    rw [ekj6] at hw
    refine m_callV2i (pc := 27) C hs (fun h n u hV => ct_X6_goes l G a _ _ _ _ hw h n u hV) (by decide) (by decide) rfl (lw_V q1794 q1796 qs29 q77 q1797) sg_X6_goes (Nat.le_of_ble_eq_true rfl) dX6_spray_27 (fun v10 σ9 hw => ?_)
    refine a_if_ne (pc := 30) C 35 dX6_spray_30 (by decide) (fun c11 => ?_) (fun c11 => ?_)
    · have hw := hw.1 c11
      refine a_aload_0 (pc := 35) C dX6_spray_35 ?_
      refine m_callV0v (pc := 36) C hs (fun h n u hV => ct_X6_record l G a  _ _ hw h n u hV) (by decide) (by decide) rfl (lw_V q1813 q1815 qs30 q77 q1816) sg_X6_record (Nat.le_of_ble_eq_true rfl) dX6_spray_36 (fun σ12 hw => ?_)
      refine a_aload_0 (pc := 39) C dX6_spray_39 ?_
      refine a_iload_1 (pc := 40) C dX6_spray_40 ?_
      refine m_callV1v (pc := 41) C hs (fun h n u hV => ct_X6_wets l G a _ _ _ hw h n u hV) (by decide) (by decide) rfl (lw_V q1930 q1932 qs50 q77 q1933) sg_X6_wets (Nat.le_of_ble_eq_true rfl) dX6_spray_41 (fun σ13 hw => ?_)
      refine a_aload_0 (pc := 44) C dX6_spray_44 ?_
      refine m_get_z (pc := 45) C q1758 dX6_spray_45 ?_
      refine a_bipush (pc := 48) C dX6_spray_48 bc_6 ?_
      refine m_iald (pc := 50) C (by decide) hw.1 dX6_spray_50 ?_
      have hw := hw.2
      exact a_iret C dX6_spray_51 (fun h n u hV => ⟨⟨(_, _), rfl, hw, hV⟩, m_end hs hV⟩)
    · have hw := hw.2 c11
      refine a_iconst (pc := 33) C dX6_spray_33 ic_0 ?_
      exact a_iret C dX6_spray_34 (fun h n u hV => ⟨⟨(_, _), rfl, hw, hV⟩, m_end hs hV⟩)
  refine a_if_eq (pc := 11) C 22 dX6_spray_11 (by decide) (fun c5 => ?_) (fun c5 => ?_)
  · have hw := hw.1 c5
    refine a_iconst (pc := 22) C dX6_spray_22 ic_1 ?_
    refine a_goto (pc := 23) C 27 dX6_spray_23 (by decide) ?_
    exact hkj6 _ _ hw
  · have hw := hw.2 c5
    refine a_aload_0 (pc := 14) C dX6_spray_14 ?_
    refine a_iload_1 (pc := 15) C dX6_spray_15 ?_
    refine m_callV1i (pc := 16) C hs (fun h n u hV => ct_X6_noSpray l G a _ _ _ hw h n u hV) (by decide) (by decide) rfl (lw_V q1922 q1924 qs48 q77 q1925) sg_X6_noSpray (Nat.le_of_ble_eq_true rfl) dX6_spray_16 (fun v15 σ14 hw => ?_)
    refine a_if_ne (pc := 19) C 26 dX6_spray_19 (by decide) (fun c16 => ?_) (fun c16 => ?_)
    · have hw := hw.1 c16
      refine a_iconst (pc := 26) C dX6_spray_26 ic_0 ?_
      exact hkj6 _ _ hw
    · have hw := hw.2 c16
      refine a_iconst (pc := 22) C dX6_spray_22 ic_1 ?_
      refine a_goto (pc := 23) C 27 dX6_spray_23 (by decide) ?_
      exact hkj6 _ _ hw
def wp_X6_changes (p1 : Int32) (p2 : Int32) (p3 : Int32) (σ : MS) (Q : Int32 → MS → Prop) : Prop := (wp_X6_isDrum p1 (fun v1 => (wp_X6_in p3 0 3 (fun v2 => (wp_X6_goes v1 v2 σ (fun v4 σ3 => (((¬ v4 = 0) → (wp_X6_record σ3 (fun σ6 => (vp_in ((32 + (3 * p1)) + p2) (mLen 0) ∧ (∀ x7 : Int32, x7 = σ6 0 ((32 + (3 * p1)) + p2).toNatClampNeg → (vp_in ((32 + (3 * p1)) + p2) (mLen 0) ∧ ∀ σ8 : MS, σ8 = mU σ6 0 ((32 + (3 * p1)) + p2).toNatClampNeg p3 → (Q x7 σ8))))))) ∧ ((v4 = 0) → (Q 0 σ3)))))))))
theorem sg_X6_changes : aSig yX6_changes 3 := by decide +kernel
set_option maxHeartbeats 4000000 in
theorem ct_X6_changes (l : Launch) (G : aG) (a : Nat) (p1 : Int32) (p2 : Int32) (p3 : Int32)  (σ : MS) (Q : Int32 → MS → Prop) (hw : wp_X6_changes p1 p2 p3 σ Q) (h0 : AH) (n0 u0 : Nat) (hV : MV h0 a σ) : CT l yX6_changes (ws_ yX6_changes cX6_changes 5 (some .int)) 3 G [.ref a, .int p1, .int p2, .int p3] h0 n0 u0 0 0 (m_pi Q h0 n0 u0 a) := by
  refine CT.intro [some (.ref a), some (.int p1), some (.int p2), some (.int p3), none] pn_RX6 rfl (Nat.le_of_ble_eq_true rfl) ?_
  intro p e s m args below meth c C hz hu
  have hs : s.heap.size = n0 ∧ slT s.heap = u0 := ⟨hz, hu⟩
  refine a_world (V1 := MW h0 n0 u0 a σ) (MW.start hV) ?_
  unfold wp_X6_changes at hw
  refine a_aload_0 (pc := 0) C dX6_changes_0 ?_
  refine a_iload_1 (pc := 1) C dX6_changes_1 ?_
  refine m_callS1p (pc := 2) C hs (fun h n u => ct_X6_isDrum l G _ _ hw h n u) (by decide) (by decide) (lw_S q1871 q1872 q77 q1873) sg_X6_isDrum (Nat.le_of_ble_eq_true rfl) dX6_changes_2 (fun v1 hw => ?_)
  refine a_iload_3 (pc := 5) C dX6_changes_5 ?_
  refine a_iconst (pc := 6) C dX6_changes_6 ic_0 ?_
  refine a_iconst (pc := 7) C dX6_changes_7 ic_3 ?_
  refine m_callS3p (pc := 8) C hs (fun h n u => ct_X6_in l G _ _ _ _ hw h n u) (by decide) (by decide) (lw_S q1821 q1822 q77 q1823) sg_X6_in (Nat.le_of_ble_eq_true rfl) dX6_changes_8 (fun v2 hw => ?_)
  refine m_callV2i (pc := 11) C hs (fun h n u hV => ct_X6_goes l G a _ _ _ _ hw h n u hV) (by decide) (by decide) rfl (lw_V q1794 q1796 qs29 q77 q1797) sg_X6_goes (Nat.le_of_ble_eq_true rfl) dX6_changes_11 (fun v4 σ3 hw => ?_)
  refine a_if_ne (pc := 14) C 19 dX6_changes_14 (by decide) (fun c5 => ?_) (fun c5 => ?_)
  · have hw := hw.1 c5
    refine a_aload_0 (pc := 19) C dX6_changes_19 ?_
    refine m_callV0v (pc := 20) C hs (fun h n u hV => ct_X6_record l G a  _ _ hw h n u hV) (by decide) (by decide) rfl (lw_V q1813 q1815 qs30 q77 q1816) sg_X6_record (Nat.le_of_ble_eq_true rfl) dX6_changes_20 (fun σ6 hw => ?_)
    refine a_aload_0 (pc := 23) C dX6_changes_23 ?_
    refine m_get_z (pc := 24) C q1758 dX6_changes_24 ?_
    refine a_bipush (pc := 27) C dX6_changes_27 bc_32 ?_
    refine a_iconst (pc := 29) C dX6_changes_29 ic_3 ?_
    refine a_iload_1 (pc := 30) C dX6_changes_30 ?_
    refine a_imul (pc := 31) C dX6_changes_31 ?_
    refine a_iadd (pc := 32) C dX6_changes_32 ?_
    refine a_iload_2 (pc := 33) C dX6_changes_33 ?_
    refine a_iadd (pc := 34) C dX6_changes_34 ?_
    refine m_iald (pc := 35) C (by decide) hw.1 dX6_changes_35 ?_
    have hw := hw.2
    refine a_topi (fun x7 ex7 => ?_)
    have hw := hw x7 ex7
    refine a_istore_4 (pc := 36) C dX6_changes_36 (by decide) rfl ?_
    refine a_aload_0 (pc := 38) C dX6_changes_38 ?_
    refine m_get_z (pc := 39) C q1758 dX6_changes_39 ?_
    refine a_bipush (pc := 42) C dX6_changes_42 bc_32 ?_
    refine a_iconst (pc := 44) C dX6_changes_44 ic_3 ?_
    refine a_iload_1 (pc := 45) C dX6_changes_45 ?_
    refine a_imul (pc := 46) C dX6_changes_46 ?_
    refine a_iadd (pc := 47) C dX6_changes_47 ?_
    refine a_iload_2 (pc := 48) C dX6_changes_48 ?_
    refine a_iadd (pc := 49) C dX6_changes_49 ?_
    refine a_iload_3 (pc := 50) C dX6_changes_50 ?_
    refine m_iast (pc := 51) C (by decide) hw.1 dX6_changes_51 (fun σ8 eσ8 => ?_)
    have hw := hw.2 σ8 eσ8
    refine a_iload_4 (pc := 52) C dX6_changes_52 ?_
    exact a_iret C dX6_changes_54 (fun h n u hV => ⟨⟨(_, _), rfl, hw, hV⟩, m_end hs hV⟩)
  · have hw := hw.2 c5
    refine a_iconst (pc := 17) C dX6_changes_17 ic_0 ?_
    exact a_iret C dX6_changes_18 (fun h n u hV => ⟨⟨(_, _), rfl, hw, hV⟩, m_end hs hV⟩)
def wp_X6_setAir (p1 : Int32) (p2 : Int32) (σ : MS) (Q : Int32 → MS → Prop) : Prop := (wp_X6_changes p1 0 p2 σ (fun v2 σ1 => (Q v2 σ1)))
theorem sg_X6_setAir : aSig yX6_setAir 2 := by decide +kernel
set_option maxHeartbeats 4000000 in
theorem ct_X6_setAir (l : Launch) (G : aG) (a : Nat) (p1 : Int32) (p2 : Int32)  (σ : MS) (Q : Int32 → MS → Prop) (hw : wp_X6_setAir p1 p2 σ Q) (h0 : AH) (n0 u0 : Nat) (hV : MV h0 a σ) : CT l yX6_setAir (ws_ yX6_setAir cX6_setAir 3 (some .int)) 4 G [.ref a, .int p1, .int p2] h0 n0 u0 0 0 (m_pi Q h0 n0 u0 a) := by
  refine CT.intro [some (.ref a), some (.int p1), some (.int p2)] pn_RX6 rfl (Nat.le_of_ble_eq_true rfl) ?_
  intro p e s m args below meth c C hz hu
  have hs : s.heap.size = n0 ∧ slT s.heap = u0 := ⟨hz, hu⟩
  refine a_world (V1 := MW h0 n0 u0 a σ) (MW.start hV) ?_
  unfold wp_X6_setAir at hw
  refine a_aload_0 (pc := 0) C dX6_setAir_0 ?_
  refine a_iload_1 (pc := 1) C dX6_setAir_1 ?_
  refine a_iconst (pc := 2) C dX6_setAir_2 ic_0 ?_
  refine a_iload_2 (pc := 3) C dX6_setAir_3 ?_
  refine m_callV3i (pc := 4) C hs (fun h n u hV => ct_X6_changes l G a _ _ _ _ _ hw h n u hV) (by decide) (by decide) rfl (lw_V q1941 q1943 qs51 q77 q1944) sg_X6_changes (Nat.le_of_ble_eq_true rfl) dX6_setAir_4 (fun v2 σ1 hw => ?_)
  exact a_iret C dX6_setAir_7 (fun h n u hV => ⟨⟨(_, _), rfl, hw, hV⟩, m_end hs hV⟩)
def wp_X6_setDew (p1 : Int32) (p2 : Int32) (σ : MS) (Q : Int32 → MS → Prop) : Prop := (wp_X6_changes p1 1 p2 σ (fun v2 σ1 => (Q v2 σ1)))
theorem sg_X6_setDew : aSig yX6_setDew 2 := by decide +kernel
set_option maxHeartbeats 4000000 in
theorem ct_X6_setDew (l : Launch) (G : aG) (a : Nat) (p1 : Int32) (p2 : Int32)  (σ : MS) (Q : Int32 → MS → Prop) (hw : wp_X6_setDew p1 p2 σ Q) (h0 : AH) (n0 u0 : Nat) (hV : MV h0 a σ) : CT l yX6_setDew (ws_ yX6_setDew cX6_setDew 3 (some .int)) 4 G [.ref a, .int p1, .int p2] h0 n0 u0 0 0 (m_pi Q h0 n0 u0 a) := by
  refine CT.intro [some (.ref a), some (.int p1), some (.int p2)] pn_RX6 rfl (Nat.le_of_ble_eq_true rfl) ?_
  intro p e s m args below meth c C hz hu
  have hs : s.heap.size = n0 ∧ slT s.heap = u0 := ⟨hz, hu⟩
  refine a_world (V1 := MW h0 n0 u0 a σ) (MW.start hV) ?_
  unfold wp_X6_setDew at hw
  refine a_aload_0 (pc := 0) C dX6_setDew_0 ?_
  refine a_iload_1 (pc := 1) C dX6_setDew_1 ?_
  refine a_iconst (pc := 2) C dX6_setDew_2 ic_1 ?_
  refine a_iload_2 (pc := 3) C dX6_setDew_3 ?_
  refine m_callV3i (pc := 4) C hs (fun h n u hV => ct_X6_changes l G a _ _ _ _ _ hw h n u hV) (by decide) (by decide) rfl (lw_V q1941 q1943 qs51 q77 q1944) sg_X6_changes (Nat.le_of_ble_eq_true rfl) dX6_setDew_4 (fun v2 σ1 hw => ?_)
  exact a_iret C dX6_setDew_7 (fun h n u hV => ⟨⟨(_, _), rfl, hw, hV⟩, m_end hs hV⟩)
def wp_X6_setTurn (p1 : Int32) (p2 : Int32) (σ : MS) (Q : Int32 → MS → Prop) : Prop := (wp_X6_changes p1 2 p2 σ (fun v2 σ1 => (Q v2 σ1)))
theorem sg_X6_setTurn : aSig yX6_setTurn 2 := by decide +kernel
set_option maxHeartbeats 4000000 in
theorem ct_X6_setTurn (l : Launch) (G : aG) (a : Nat) (p1 : Int32) (p2 : Int32)  (σ : MS) (Q : Int32 → MS → Prop) (hw : wp_X6_setTurn p1 p2 σ Q) (h0 : AH) (n0 u0 : Nat) (hV : MV h0 a σ) : CT l yX6_setTurn (ws_ yX6_setTurn cX6_setTurn 3 (some .int)) 4 G [.ref a, .int p1, .int p2] h0 n0 u0 0 0 (m_pi Q h0 n0 u0 a) := by
  refine CT.intro [some (.ref a), some (.int p1), some (.int p2)] pn_RX6 rfl (Nat.le_of_ble_eq_true rfl) ?_
  intro p e s m args below meth c C hz hu
  have hs : s.heap.size = n0 ∧ slT s.heap = u0 := ⟨hz, hu⟩
  refine a_world (V1 := MW h0 n0 u0 a σ) (MW.start hV) ?_
  unfold wp_X6_setTurn at hw
  refine a_aload_0 (pc := 0) C dX6_setTurn_0 ?_
  refine a_iload_1 (pc := 1) C dX6_setTurn_1 ?_
  refine a_iconst (pc := 2) C dX6_setTurn_2 ic_2 ?_
  refine a_iload_2 (pc := 3) C dX6_setTurn_3 ?_
  refine m_callV3i (pc := 4) C hs (fun h n u hV => ct_X6_changes l G a _ _ _ _ _ hw h n u hV) (by decide) (by decide) rfl (lw_V q1941 q1943 qs51 q77 q1944) sg_X6_changes (Nat.le_of_ble_eq_true rfl) dX6_setTurn_4 (fun v2 σ1 hw => ?_)
  exact a_iret C dX6_setTurn_7 (fun h n u hV => ⟨⟨(_, _), rfl, hw, hV⟩, m_end hs hV⟩)
def wp_X6_setHeats (p1 : Int32) (p2 : Int32) (σ : MS) (Q : Int32 → MS → Prop) : Prop := (wp_X6_in p1 30 60 (fun v1 => (jn (fun (x4 : Int32) => (vp_in 1 (mLen 0) ∧ (jn (fun (x7 : Int32) => (wp_X6_goes x4 x7 σ (fun v9 σ8 => (((¬ v9 = 0) → (wp_X6_record σ8 (fun σ11 => (vp_in 3 (mLen 0) ∧ (vp_in 4 (mLen 0) ∧ (∀ x12 : Int32, x12 = (100 * (σ11 0 (3 : Int32).toNatClampNeg)) + (σ11 0 (4 : Int32).toNatClampNeg) → (vp_in 3 (mLen 0) ∧ ∀ σ13 : MS, σ13 = mU σ11 0 (3 : Int32).toNatClampNeg p1 → (vp_in 4 (mLen 0) ∧ ∀ σ14 : MS, σ14 = mU σ13 0 (4 : Int32).toNatClampNeg p2 → (Q x12 σ14))))))))) ∧ ((v9 = 0) → (Q 0 σ8)))))) (fun kj6 => (((¬ (σ 0 (1 : Int32).toNatClampNeg) = 0) → (kj6 0)) ∧ (((σ 0 (1 : Int32).toNatClampNeg) = 0) → (kj6 1))))))) (fun kj3 => (((v1 = 0) → (kj3 0)) ∧ ((¬ v1 = 0) → (wp_X6_in p2 60 99 (fun v15 => (((v15 = 0) → (kj3 0)) ∧ ((¬ v15 = 0) → (kj3 1)))))))))))
theorem sg_X6_setHeats : aSig yX6_setHeats 2 := by decide +kernel
set_option maxHeartbeats 4000000 in
theorem ct_X6_setHeats (l : Launch) (G : aG) (a : Nat) (p1 : Int32) (p2 : Int32)  (σ : MS) (Q : Int32 → MS → Prop) (hw : wp_X6_setHeats p1 p2 σ Q) (h0 : AH) (n0 u0 : Nat) (hV : MV h0 a σ) : CT l yX6_setHeats (ws_ yX6_setHeats cX6_setHeats 4 (some .int)) 3 G [.ref a, .int p1, .int p2] h0 n0 u0 0 0 (m_pi Q h0 n0 u0 a) := by
  refine CT.intro [some (.ref a), some (.int p1), some (.int p2), none] pn_RX6 rfl (Nat.le_of_ble_eq_true rfl) ?_
  intro p e s m args below meth c C hz hu
  have hs : s.heap.size = n0 ∧ slT s.heap = u0 := ⟨hz, hu⟩
  refine a_world (V1 := MW h0 n0 u0 a σ) (MW.start hV) ?_
  unfold wp_X6_setHeats at hw
  refine a_aload_0 (pc := 0) C dX6_setHeats_0 ?_
  refine a_iload_1 (pc := 1) C dX6_setHeats_1 ?_
  refine a_bipush (pc := 2) C dX6_setHeats_2 bc_30 ?_
  refine a_bipush (pc := 4) C dX6_setHeats_4 bc_60 ?_
  refine m_callS3p (pc := 6) C hs (fun h n u => ct_X6_in l G _ _ _ _ hw h n u) (by decide) (by decide) (lw_S q1821 q1822 q77 q1823) sg_X6_in (Nat.le_of_ble_eq_true rfl) dX6_setHeats_6 (fun v1 hw => ?_)
  refine jn_use hw (fun kj3 ekj3 hw => ?_)
  have hkj3 : ∀ (x4 : Int32), kj3 x4 → AW G p l e (aRm 3 0 0) s m args below meth c (a_A h0 n0) 4 (MQ below (a_Qc G (m_pi Q h0 n0 u0 a) (a_A h0 n0)) args s 0 0 (a_A h0 n0)) (MW h0 n0 u0 a σ) 28 [some (.ref a), some (.int p1), some (.int p2), none] [.int x4, .ref a] := by
    intro x4 hw
    rw [ekj3] at hw
    refine a_aload_0 (pc := 28) C dX6_setHeats_28 ?_
    refine m_get_z (pc := 29) C q1758 dX6_setHeats_29 ?_
    refine a_iconst (pc := 32) C dX6_setHeats_32 ic_1 ?_
    refine m_iald (pc := 33) C (by decide) hw.1 dX6_setHeats_33 ?_
    have hw := hw.2
    refine jn_use hw (fun kj6 ekj6 hw => ?_)
    have hkj6 : ∀ (x7 : Int32), kj6 x7 → AW G p l e (aRm 3 0 0) s m args below meth c (a_A h0 n0) 4 (MQ below (a_Qc G (m_pi Q h0 n0 u0 a) (a_A h0 n0)) args s 0 0 (a_A h0 n0)) (MW h0 n0 u0 a σ) 42 [some (.ref a), some (.int p1), some (.int p2), none] [.int x7, .int x4, .ref a] := by
      intro x7 hw
      rw [ekj6] at hw
      refine m_callV2i (pc := 42) C hs (fun h n u hV => ct_X6_goes l G a _ _ _ _ hw h n u hV) (by decide) (by decide) rfl (lw_V q1794 q1796 qs29 q77 q1797) sg_X6_goes (Nat.le_of_ble_eq_true rfl) dX6_setHeats_42 (fun v9 σ8 hw => ?_)
      refine a_if_ne (pc := 45) C 50 dX6_setHeats_45 (by decide) (fun c10 => ?_) (fun c10 => ?_)
      · have hw := hw.1 c10
        refine a_aload_0 (pc := 50) C dX6_setHeats_50 ?_
        refine m_callV0v (pc := 51) C hs (fun h n u hV => ct_X6_record l G a  _ _ hw h n u hV) (by decide) (by decide) rfl (lw_V q1813 q1815 qs30 q77 q1816) sg_X6_record (Nat.le_of_ble_eq_true rfl) dX6_setHeats_51 (fun σ11 hw => ?_)
        refine a_bipush (pc := 54) C dX6_setHeats_54 bc_100 ?_
        refine a_aload_0 (pc := 56) C dX6_setHeats_56 ?_
        refine m_get_z (pc := 57) C q1758 dX6_setHeats_57 ?_
        refine a_iconst (pc := 60) C dX6_setHeats_60 ic_3 ?_
        refine m_iald (pc := 61) C (by decide) hw.1 dX6_setHeats_61 ?_
        have hw := hw.2
        refine a_imul (pc := 62) C dX6_setHeats_62 ?_
        refine a_aload_0 (pc := 63) C dX6_setHeats_63 ?_
        refine m_get_z (pc := 64) C q1758 dX6_setHeats_64 ?_
        refine a_iconst (pc := 67) C dX6_setHeats_67 ic_4 ?_
        refine m_iald (pc := 68) C (by decide) hw.1 dX6_setHeats_68 ?_
        have hw := hw.2
        refine a_iadd (pc := 69) C dX6_setHeats_69 ?_
        refine a_topi (fun x12 ex12 => ?_)
        have hw := hw x12 ex12
        refine a_istore_3 (pc := 70) C dX6_setHeats_70 (by decide) rfl ?_
        refine a_aload_0 (pc := 71) C dX6_setHeats_71 ?_
        refine m_get_z (pc := 72) C q1758 dX6_setHeats_72 ?_
        refine a_iconst (pc := 75) C dX6_setHeats_75 ic_3 ?_
        refine a_iload_1 (pc := 76) C dX6_setHeats_76 ?_
        refine m_iast (pc := 77) C (by decide) hw.1 dX6_setHeats_77 (fun σ13 eσ13 => ?_)
        have hw := hw.2 σ13 eσ13
        refine a_aload_0 (pc := 78) C dX6_setHeats_78 ?_
        refine m_get_z (pc := 79) C q1758 dX6_setHeats_79 ?_
        refine a_iconst (pc := 82) C dX6_setHeats_82 ic_4 ?_
        refine a_iload_2 (pc := 83) C dX6_setHeats_83 ?_
        refine m_iast (pc := 84) C (by decide) hw.1 dX6_setHeats_84 (fun σ14 eσ14 => ?_)
        have hw := hw.2 σ14 eσ14
        refine a_iload_3 (pc := 85) C dX6_setHeats_85 ?_
        exact a_iret C dX6_setHeats_86 (fun h n u hV => ⟨⟨(_, _), rfl, hw, hV⟩, m_end hs hV⟩)
      · have hw := hw.2 c10
        refine a_iconst (pc := 48) C dX6_setHeats_48 ic_0 ?_
        exact a_iret C dX6_setHeats_49 (fun h n u hV => ⟨⟨(_, _), rfl, hw, hV⟩, m_end hs hV⟩)
    refine a_if_ne (pc := 34) C 41 dX6_setHeats_34 (by decide) (fun c5 => ?_) (fun c5 => ?_)
    · have hw := hw.1 c5
      refine a_iconst (pc := 41) C dX6_setHeats_41 ic_0 ?_
      exact hkj6 _ hw
    · have hw := hw.2 c5
      refine a_iconst (pc := 37) C dX6_setHeats_37 ic_1 ?_
      refine a_goto (pc := 38) C 42 dX6_setHeats_38 (by decide) ?_
      exact hkj6 _ hw
  refine a_if_eq (pc := 9) C 27 dX6_setHeats_9 (by decide) (fun c2 => ?_) (fun c2 => ?_)
  · have hw := hw.1 c2
    refine a_iconst (pc := 27) C dX6_setHeats_27 ic_0 ?_
    exact hkj3 _ hw
  · have hw := hw.2 c2
    refine a_iload_2 (pc := 12) C dX6_setHeats_12 ?_
    refine a_bipush (pc := 13) C dX6_setHeats_13 bc_60 ?_
    refine a_bipush (pc := 15) C dX6_setHeats_15 bc_99 ?_
    refine m_callS3p (pc := 17) C hs (fun h n u => ct_X6_in l G _ _ _ _ hw h n u) (by decide) (by decide) (lw_S q1821 q1822 q77 q1823) sg_X6_in (Nat.le_of_ble_eq_true rfl) dX6_setHeats_17 (fun v15 hw => ?_)
    refine a_if_eq (pc := 20) C 27 dX6_setHeats_20 (by decide) (fun c16 => ?_) (fun c16 => ?_)
    · have hw := hw.1 c16
      refine a_iconst (pc := 27) C dX6_setHeats_27 ic_0 ?_
      exact hkj3 _ hw
    · have hw := hw.2 c16
      refine a_iconst (pc := 23) C dX6_setHeats_23 ic_1 ?_
      refine a_goto (pc := 24) C 28 dX6_setHeats_24 (by decide) ?_
      exact hkj3 _ hw
def wp_X6_setSprays (p1 : Int32) (σ : MS) (Q : Int32 → MS → Prop) : Prop := (wp_X6_in p1 0 9 (fun v1 => (wp_X6_goes v1 1 σ (fun v3 σ2 => (((¬ v3 = 0) → (wp_X6_record σ2 (fun σ5 => (vp_in 5 (mLen 0) ∧ (∀ x6 : Int32, x6 = σ5 0 (5 : Int32).toNatClampNeg → (vp_in 5 (mLen 0) ∧ ∀ σ7 : MS, σ7 = mU σ5 0 (5 : Int32).toNatClampNeg p1 → (Q x6 σ7))))))) ∧ ((v3 = 0) → (Q 0 σ2)))))))
theorem sg_X6_setSprays : aSig yX6_setSprays 1 := by decide +kernel
set_option maxHeartbeats 4000000 in
theorem ct_X6_setSprays (l : Launch) (G : aG) (a : Nat) (p1 : Int32)  (σ : MS) (Q : Int32 → MS → Prop) (hw : wp_X6_setSprays p1 σ Q) (h0 : AH) (n0 u0 : Nat) (hV : MV h0 a σ) : CT l yX6_setSprays (ws_ yX6_setSprays cX6_setSprays 3 (some .int)) 3 G [.ref a, .int p1] h0 n0 u0 0 0 (m_pi Q h0 n0 u0 a) := by
  refine CT.intro [some (.ref a), some (.int p1), none] pn_RX6 rfl (Nat.le_of_ble_eq_true rfl) ?_
  intro p e s m args below meth c C hz hu
  have hs : s.heap.size = n0 ∧ slT s.heap = u0 := ⟨hz, hu⟩
  refine a_world (V1 := MW h0 n0 u0 a σ) (MW.start hV) ?_
  unfold wp_X6_setSprays at hw
  refine a_aload_0 (pc := 0) C dX6_setSprays_0 ?_
  refine a_iload_1 (pc := 1) C dX6_setSprays_1 ?_
  refine a_iconst (pc := 2) C dX6_setSprays_2 ic_0 ?_
  refine a_bipush (pc := 3) C dX6_setSprays_3 bc_9 ?_
  refine m_callS3p (pc := 5) C hs (fun h n u => ct_X6_in l G _ _ _ _ hw h n u) (by decide) (by decide) (lw_S q1821 q1822 q77 q1823) sg_X6_in (Nat.le_of_ble_eq_true rfl) dX6_setSprays_5 (fun v1 hw => ?_)
  refine a_iconst (pc := 8) C dX6_setSprays_8 ic_1 ?_
  refine m_callV2i (pc := 9) C hs (fun h n u hV => ct_X6_goes l G a _ _ _ _ hw h n u hV) (by decide) (by decide) rfl (lw_V q1794 q1796 qs29 q77 q1797) sg_X6_goes (Nat.le_of_ble_eq_true rfl) dX6_setSprays_9 (fun v3 σ2 hw => ?_)
  refine a_if_ne (pc := 12) C 17 dX6_setSprays_12 (by decide) (fun c4 => ?_) (fun c4 => ?_)
  · have hw := hw.1 c4
    refine a_aload_0 (pc := 17) C dX6_setSprays_17 ?_
    refine m_callV0v (pc := 18) C hs (fun h n u hV => ct_X6_record l G a  _ _ hw h n u hV) (by decide) (by decide) rfl (lw_V q1813 q1815 qs30 q77 q1816) sg_X6_record (Nat.le_of_ble_eq_true rfl) dX6_setSprays_18 (fun σ5 hw => ?_)
    refine a_aload_0 (pc := 21) C dX6_setSprays_21 ?_
    refine m_get_z (pc := 22) C q1758 dX6_setSprays_22 ?_
    refine a_iconst (pc := 25) C dX6_setSprays_25 ic_5 ?_
    refine m_iald (pc := 26) C (by decide) hw.1 dX6_setSprays_26 ?_
    have hw := hw.2
    refine a_topi (fun x6 ex6 => ?_)
    have hw := hw x6 ex6
    refine a_istore_2 (pc := 27) C dX6_setSprays_27 (by decide) rfl ?_
    refine a_aload_0 (pc := 28) C dX6_setSprays_28 ?_
    refine m_get_z (pc := 29) C q1758 dX6_setSprays_29 ?_
    refine a_iconst (pc := 32) C dX6_setSprays_32 ic_5 ?_
    refine a_iload_1 (pc := 33) C dX6_setSprays_33 ?_
    refine m_iast (pc := 34) C (by decide) hw.1 dX6_setSprays_34 (fun σ7 eσ7 => ?_)
    have hw := hw.2 σ7 eσ7
    refine a_iload_2 (pc := 35) C dX6_setSprays_35 ?_
    exact a_iret C dX6_setSprays_36 (fun h n u hV => ⟨⟨(_, _), rfl, hw, hV⟩, m_end hs hV⟩)
  · have hw := hw.2 c4
    refine a_iconst (pc := 15) C dX6_setSprays_15 ic_0 ?_
    exact a_iret C dX6_setSprays_16 (fun h n u hV => ⟨⟨(_, _), rfl, hw, hV⟩, m_end hs hV⟩)
def wp_X6_pace (p1 : Int32) (σ : MS) (Q : Int32 → MS → Prop) : Prop := (wp_X6_of p1 4 σ (fun v2 σ1 => (((v2 < 30) → (Q 0 σ1)) ∧ ((¬ v2 < 30) → (wp_X6_of p1 6 σ1 (fun v5 σ4 => (wp_X6_in v5 8 34 (fun v6 => (((v6 = 0) → (Q 0 σ4)) ∧ ((¬ v6 = 0) → (wp_X6_of p1 5 σ4 (fun v9 σ8 => (((¬ v9 = 100) → (wp_X6_of p1 7 σ8 (fun v12 σ11 => (((v12 < 8) → (Q ((v2 - 25) / 5) σ11)) ∧ ((¬ v12 < 8) → (Q ((((v2 - 25) / 5) + 1) / 2) σ11)))))) ∧ ((v9 = 100) → (Q 0 σ8)))))))))))))))
theorem sg_X6_pace : aSig yX6_pace 1 := by decide +kernel
set_option maxHeartbeats 4000000 in
theorem ct_X6_pace (l : Launch) (G : aG) (a : Nat) (p1 : Int32)  (σ : MS) (Q : Int32 → MS → Prop) (hw : wp_X6_pace p1 σ Q) (h0 : AH) (n0 u0 : Nat) (hV : MV h0 a σ) : CT l yX6_pace (ws_ yX6_pace cX6_pace 4 (some .int)) 2 G [.ref a, .int p1] h0 n0 u0 0 0 (m_pi Q h0 n0 u0 a) := by
  refine CT.intro [some (.ref a), some (.int p1), none, none] pn_RX6 rfl (Nat.le_of_ble_eq_true rfl) ?_
  intro p e s m args below meth c C hz hu
  have hs : s.heap.size = n0 ∧ slT s.heap = u0 := ⟨hz, hu⟩
  refine a_world (V1 := MW h0 n0 u0 a σ) (MW.start hV) ?_
  unfold wp_X6_pace at hw
  refine a_aload_0 (pc := 0) C dX6_pace_0 ?_
  refine a_iload_1 (pc := 1) C dX6_pace_1 ?_
  refine a_iconst (pc := 2) C dX6_pace_2 ic_4 ?_
  refine m_callV2i (pc := 3) C hs (fun h n u hV => ct_X6_of l G a _ _ _ _ hw h n u hV) (by decide) (by decide) rfl (lw_V q1844 q1846 qs35 q77 q1847) sg_X6_of (Nat.le_of_ble_eq_true rfl) dX6_pace_3 (fun v2 σ1 hw => ?_)
  refine a_istore_2 (pc := 6) C dX6_pace_6 (by decide) rfl ?_
  refine a_iload_2 (pc := 7) C dX6_pace_7 ?_
  refine a_bipush (pc := 8) C dX6_pace_8 bc_30 ?_
  refine a_icmp_lt (pc := 10) C 41 dX6_pace_10 (by decide) (fun c3 => ?_) (fun c3 => ?_)
  · have hw := hw.1 c3
    refine a_iconst (pc := 41) C dX6_pace_41 ic_0 ?_
    exact a_iret C dX6_pace_42 (fun h n u hV => ⟨⟨(_, _), rfl, hw, hV⟩, m_end hs hV⟩)
  · have hw := hw.2 c3
    refine a_aload_0 (pc := 13) C dX6_pace_13 ?_
    refine a_iload_1 (pc := 14) C dX6_pace_14 ?_
    refine a_bipush (pc := 15) C dX6_pace_15 bc_6 ?_
    refine m_callV2i (pc := 17) C hs (fun h n u hV => ct_X6_of l G a _ _ _ _ hw h n u hV) (by decide) (by decide) rfl (lw_V q1844 q1846 qs35 q77 q1847) sg_X6_of (Nat.le_of_ble_eq_true rfl) dX6_pace_17 (fun v5 σ4 hw => ?_)
    refine a_bipush (pc := 20) C dX6_pace_20 bc_8 ?_
    refine a_bipush (pc := 22) C dX6_pace_22 bc_34 ?_
    refine m_callS3p (pc := 24) C hs (fun h n u => ct_X6_in l G _ _ _ _ hw h n u) (by decide) (by decide) (lw_S q1821 q1822 q77 q1823) sg_X6_in (Nat.le_of_ble_eq_true rfl) dX6_pace_24 (fun v6 hw => ?_)
    refine a_if_eq (pc := 27) C 41 dX6_pace_27 (by decide) (fun c7 => ?_) (fun c7 => ?_)
    · have hw := hw.1 c7
      refine a_iconst (pc := 41) C dX6_pace_41 ic_0 ?_
      exact a_iret C dX6_pace_42 (fun h n u hV => ⟨⟨(_, _), rfl, hw, hV⟩, m_end hs hV⟩)
    · have hw := hw.2 c7
      refine a_aload_0 (pc := 30) C dX6_pace_30 ?_
      refine a_iload_1 (pc := 31) C dX6_pace_31 ?_
      refine a_iconst (pc := 32) C dX6_pace_32 ic_5 ?_
      refine m_callV2i (pc := 33) C hs (fun h n u hV => ct_X6_of l G a _ _ _ _ hw h n u hV) (by decide) (by decide) rfl (lw_V q1844 q1846 qs35 q77 q1847) sg_X6_of (Nat.le_of_ble_eq_true rfl) dX6_pace_33 (fun v9 σ8 hw => ?_)
      refine a_bipush (pc := 36) C dX6_pace_36 bc_100 ?_
      refine a_icmp_ne (pc := 38) C 43 dX6_pace_38 (by decide) (fun c10 => ?_) (fun c10 => ?_)
      · have hw := hw.1 c10
        refine a_iload_2 (pc := 43) C dX6_pace_43 ?_
        refine a_bipush (pc := 44) C dX6_pace_44 bc_25 ?_
        refine a_isub (pc := 46) C dX6_pace_46 ?_
        refine a_iconst (pc := 47) C dX6_pace_47 ic_5 ?_
        refine a_idiv (pc := 48) C dX6_pace_48 (by decide) ?_
        refine a_istore_3 (pc := 49) C dX6_pace_49 (by decide) rfl ?_
        refine a_aload_0 (pc := 50) C dX6_pace_50 ?_
        refine a_iload_1 (pc := 51) C dX6_pace_51 ?_
        refine a_bipush (pc := 52) C dX6_pace_52 bc_7 ?_
        refine m_callV2i (pc := 54) C hs (fun h n u hV => ct_X6_of l G a _ _ _ _ hw h n u hV) (by decide) (by decide) rfl (lw_V q1844 q1846 qs35 q77 q1847) sg_X6_of (Nat.le_of_ble_eq_true rfl) dX6_pace_54 (fun v12 σ11 hw => ?_)
        refine a_bipush (pc := 57) C dX6_pace_57 bc_8 ?_
        refine a_icmp_lt (pc := 59) C 70 dX6_pace_59 (by decide) (fun c13 => ?_) (fun c13 => ?_)
        · have hw := hw.1 c13
          refine a_iload_3 (pc := 70) C dX6_pace_70 ?_
          exact a_iret C dX6_pace_71 (fun h n u hV => ⟨⟨(_, _), rfl, hw, hV⟩, m_end hs hV⟩)
        · have hw := hw.2 c13
          refine a_iload_3 (pc := 62) C dX6_pace_62 ?_
          refine a_iconst (pc := 63) C dX6_pace_63 ic_1 ?_
          refine a_iadd (pc := 64) C dX6_pace_64 ?_
          refine a_iconst (pc := 65) C dX6_pace_65 ic_2 ?_
          refine a_idiv (pc := 66) C dX6_pace_66 (by decide) ?_
          refine a_goto (pc := 67) C 71 dX6_pace_67 (by decide) ?_
          exact a_iret C dX6_pace_71 (fun h n u hV => ⟨⟨(_, _), rfl, hw, hV⟩, m_end hs hV⟩)
      · have hw := hw.2 c10
        refine a_iconst (pc := 41) C dX6_pace_41 ic_0 ?_
        exact a_iret C dX6_pace_42 (fun h n u hV => ⟨⟨(_, _), rfl, hw, hV⟩, m_end hs hV⟩)
def wp_X6_grows (p1 : Int32) (σ : MS) (Q : Int32 → MS → Prop) : Prop := (wp_X6_pace p1 σ (fun v2 σ1 => (wp_X6_of p1 2 σ1 (fun v4 σ3 => (∀ x5 : Int32, x5 = (v4 * v2) / 800 → (∀ x6 : Int32, x6 = (v4 * v2) / 300 → (wp_X6_setting p1 0 σ3 (fun v8 σ7 => (wp_X6_setting p1 2 σ7 (fun v10 σ9 => (wp_X6_setting p1 1 σ9 (fun v12 σ11 => (wp_X6_most 0 (v8 - v12) (fun v13 => (wp_X6_of p1 7 σ11 (fun v15 σ14 => (wp_X6_of p1 5 σ14 (fun v17 σ16 => (wp_X6_least 100 (v17 + v2) (fun v18 => (wp_X6_sets p1 5 v18 σ16 (fun σ19 => (wp_X6_sets p1 2 ((v4 - x5) - x6) σ19 (fun σ20 => (wp_X6_of p1 3 σ20 (fun v22 σ21 => (wp_X6_sets p1 3 (v22 + x6) σ21 (fun σ23 => (vp_in 12 (mLen 0) ∧ (vp_in 12 (mLen 0) ∧ ∀ σ24 : MS, σ24 = mU σ23 0 (12 : Int32).toNatClampNeg ((σ23 0 (12 : Int32).toNatClampNeg) + x5) → (jn (fun (x27 : Int32) (σ28 : MS) => (wp_X6_sets p1 4 x27 σ28 (fun σ29 => (wp_X6_of p1 6 σ29 (fun v31 σ30 => (jn (fun (x34 : Int32) => (wp_X6_of p1 0 σ30 (fun v36 σ35 => (jn (fun (x39 : Int32) => (∀ x40 : Int32, x40 = ((((v31 + v2) + x34) + x39) - (2 * v8)) - v10 → (wp_X6_most 10 x40 (fun v41 => (wp_X6_sets p1 6 v41 σ35 (fun σ42 => (jn (fun (x45 : Int32) => (wp_X6_sets p1 7 x45 σ42 (fun σ46 => (((42 < x40) → (wp_X6_sets p1 0 6 σ46 (fun σ48 => (wp_X6_sets p1 1 ((-1)) σ48 (fun σ49 => (vp_in 11 (mLen 0) ∧ (wp_X6_weight p1 σ49 (fun v51 σ50 => (vp_in 11 (mLen 0) ∧ ∀ σ52 : MS, σ52 = mU σ50 0 (11 : Int32).toNatClampNeg ((σ49 0 (11 : Int32).toNatClampNeg) + v51) → (wp_X6_books 6 p1 σ52 (fun σ53 => (Q 1 σ53)))))))))))) ∧ ((¬ 42 < x40) → (Q 0 σ46)))))) (fun kj44 => (((v10 ≤ 0) → (wp_X6_least 20 (v15 + 1) (fun v54 => (kj44 v54)))) ∧ ((¬ v10 ≤ 0) → (wp_X6_most 0 (v15 - (3 * v10)) (fun v55 => (kj44 v55))))))))))))) (fun kj38 => (((¬ v36 = 3) → (kj38 0)) ∧ ((v36 = 3) → (kj38 1)))))))) (fun kj33 => (((v15 < 8) → (kj33 0)) ∧ ((¬ v15 < 8) → (kj33 1)))))))))) (fun kj26 => (((v13 ≤ 0) → (wp_X6_of p1 4 σ24 (fun v57 σ56 => (kj26 v57 σ56)))) ∧ ((¬ v13 ≤ 0) → (wp_X6_of p1 4 σ24 (fun v59 σ58 => (wp_X6_most 12 (v59 - v13) (fun v60 => (kj26 v60 σ58)))))))))))))))))))))))))))))))))))))))
theorem sg_X6_grows : aSig yX6_grows 1 := by decide +kernel
set_option maxHeartbeats 4000000 in
theorem ct_X6_grows (l : Launch) (G : aG) (a : Nat) (p1 : Int32)  (σ : MS) (Q : Int32 → MS → Prop) (hw : wp_X6_grows p1 σ Q) (h0 : AH) (n0 u0 : Nat) (hV : MV h0 a σ) : CT l yX6_grows (ws_ yX6_grows cX6_grows 11 (some .int)) 3 G [.ref a, .int p1] h0 n0 u0 0 0 (m_pi Q h0 n0 u0 a) := by
  refine CT.intro [some (.ref a), some (.int p1), none, none, none, none, none, none, none, none, none] pn_RX6 rfl (Nat.le_of_ble_eq_true rfl) ?_
  intro p e s m args below meth c C hz hu
  have hs : s.heap.size = n0 ∧ slT s.heap = u0 := ⟨hz, hu⟩
  refine a_world (V1 := MW h0 n0 u0 a σ) (MW.start hV) ?_
  unfold wp_X6_grows at hw
  refine a_aload_0 (pc := 0) C dX6_grows_0 ?_
  refine a_iload_1 (pc := 1) C dX6_grows_1 ?_
  refine m_callV1i (pc := 2) C hs (fun h n u hV => ct_X6_pace l G a _ _ _ hw h n u hV) (by decide) (by decide) rfl (lw_V q1977 q1979 qs55 q77 q1980) sg_X6_pace (Nat.le_of_ble_eq_true rfl) dX6_grows_2 (fun v2 σ1 hw => ?_)
  refine a_istore_2 (pc := 5) C dX6_grows_5 (by decide) rfl ?_
  refine a_aload_0 (pc := 6) C dX6_grows_6 ?_
  refine a_iload_1 (pc := 7) C dX6_grows_7 ?_
  refine a_iconst (pc := 8) C dX6_grows_8 ic_2 ?_
  refine m_callV2i (pc := 9) C hs (fun h n u hV => ct_X6_of l G a _ _ _ _ hw h n u hV) (by decide) (by decide) rfl (lw_V q1844 q1846 qs35 q77 q1847) sg_X6_of (Nat.le_of_ble_eq_true rfl) dX6_grows_9 (fun v4 σ3 hw => ?_)
  refine a_istore_3 (pc := 12) C dX6_grows_12 (by decide) rfl ?_
  refine a_iload_3 (pc := 13) C dX6_grows_13 ?_
  refine a_iload_2 (pc := 14) C dX6_grows_14 ?_
  refine a_imul (pc := 15) C dX6_grows_15 ?_
  refine a_sipush (pc := 16) C dX6_grows_16 sc_800 ?_
  refine a_idiv (pc := 19) C dX6_grows_19 (by decide) ?_
  refine a_topi (fun x5 ex5 => ?_)
  have hw := hw x5 ex5
  refine a_istore_4 (pc := 20) C dX6_grows_20 (by decide) rfl ?_
  refine a_iload_3 (pc := 22) C dX6_grows_22 ?_
  refine a_iload_2 (pc := 23) C dX6_grows_23 ?_
  refine a_imul (pc := 24) C dX6_grows_24 ?_
  refine a_sipush (pc := 25) C dX6_grows_25 sc_300 ?_
  refine a_idiv (pc := 28) C dX6_grows_28 (by decide) ?_
  refine a_topi (fun x6 ex6 => ?_)
  have hw := hw x6 ex6
  refine a_istore_5 (pc := 29) C dX6_grows_29 (by decide) rfl ?_
  refine a_aload_0 (pc := 31) C dX6_grows_31 ?_
  refine a_iload_1 (pc := 32) C dX6_grows_32 ?_
  refine a_iconst (pc := 33) C dX6_grows_33 ic_0 ?_
  refine m_callV2i (pc := 34) C hs (fun h n u hV => ct_X6_setting l G a _ _ _ _ hw h n u hV) (by decide) (by decide) rfl (lw_V q1926 q1928 qs49 q77 q1929) sg_X6_setting (Nat.le_of_ble_eq_true rfl) dX6_grows_34 (fun v8 σ7 hw => ?_)
  refine a_istore_6 (pc := 37) C dX6_grows_37 (by decide) rfl ?_
  refine a_aload_0 (pc := 39) C dX6_grows_39 ?_
  refine a_iload_1 (pc := 40) C dX6_grows_40 ?_
  refine a_iconst (pc := 41) C dX6_grows_41 ic_2 ?_
  refine m_callV2i (pc := 42) C hs (fun h n u hV => ct_X6_setting l G a _ _ _ _ hw h n u hV) (by decide) (by decide) rfl (lw_V q1926 q1928 qs49 q77 q1929) sg_X6_setting (Nat.le_of_ble_eq_true rfl) dX6_grows_42 (fun v10 σ9 hw => ?_)
  refine a_istore_7 (pc := 45) C dX6_grows_45 (by decide) rfl ?_
  refine a_iconst (pc := 47) C dX6_grows_47 ic_0 ?_
  refine a_iload_6 (pc := 48) C dX6_grows_48 ?_
  refine a_aload_0 (pc := 50) C dX6_grows_50 ?_
  refine a_iload_1 (pc := 51) C dX6_grows_51 ?_
  refine a_iconst (pc := 52) C dX6_grows_52 ic_1 ?_
  refine m_callV2i (pc := 53) C hs (fun h n u hV => ct_X6_setting l G a _ _ _ _ hw h n u hV) (by decide) (by decide) rfl (lw_V q1926 q1928 qs49 q77 q1929) sg_X6_setting (Nat.le_of_ble_eq_true rfl) dX6_grows_53 (fun v12 σ11 hw => ?_)
  refine a_isub (pc := 56) C dX6_grows_56 ?_
  refine m_callS2p (pc := 57) C hs (fun h n u => ct_X6_most l G _ _ _ hw h n u) (by decide) (by decide) (lw_S q1934 q1935 q77 q1936) sg_X6_most (Nat.le_of_ble_eq_true rfl) dX6_grows_57 (fun v13 hw => ?_)
  refine a_istore_8 (pc := 60) C dX6_grows_60 (by decide) rfl ?_
  refine a_aload_0 (pc := 62) C dX6_grows_62 ?_
  refine a_iload_1 (pc := 63) C dX6_grows_63 ?_
  refine a_bipush (pc := 64) C dX6_grows_64 bc_7 ?_
  refine m_callV2i (pc := 66) C hs (fun h n u hV => ct_X6_of l G a _ _ _ _ hw h n u hV) (by decide) (by decide) rfl (lw_V q1844 q1846 qs35 q77 q1847) sg_X6_of (Nat.le_of_ble_eq_true rfl) dX6_grows_66 (fun v15 σ14 hw => ?_)
  refine a_istore_9 (pc := 69) C dX6_grows_69 (by decide) rfl ?_
  refine a_aload_0 (pc := 71) C dX6_grows_71 ?_
  refine a_iload_1 (pc := 72) C dX6_grows_72 ?_
  refine a_iconst (pc := 73) C dX6_grows_73 ic_5 ?_
  refine a_bipush (pc := 74) C dX6_grows_74 bc_100 ?_
  refine a_aload_0 (pc := 76) C dX6_grows_76 ?_
  refine a_iload_1 (pc := 77) C dX6_grows_77 ?_
  refine a_iconst (pc := 78) C dX6_grows_78 ic_5 ?_
  refine m_callV2i (pc := 79) C hs (fun h n u hV => ct_X6_of l G a _ _ _ _ hw h n u hV) (by decide) (by decide) rfl (lw_V q1844 q1846 qs35 q77 q1847) sg_X6_of (Nat.le_of_ble_eq_true rfl) dX6_grows_79 (fun v17 σ16 hw => ?_)
  refine a_iload_2 (pc := 82) C dX6_grows_82 ?_
  refine a_iadd (pc := 83) C dX6_grows_83 ?_
  refine m_callS2p (pc := 84) C hs (fun h n u => ct_X6_least l G _ _ _ hw h n u) (by decide) (by decide) (lw_S q1864 q1865 q77 q1866) sg_X6_least (Nat.le_of_ble_eq_true rfl) dX6_grows_84 (fun v18 hw => ?_)
  refine m_callV3v (pc := 87) C hs (fun h n u hV => ct_X6_sets l G a _ _ _ _ _ hw h n u hV) (by decide) (by decide) rfl (lw_V q1828 q1830 qs32 q77 q1831) sg_X6_sets (Nat.le_of_ble_eq_true rfl) dX6_grows_87 (fun σ19 hw => ?_)
  refine a_aload_0 (pc := 90) C dX6_grows_90 ?_
  refine a_iload_1 (pc := 91) C dX6_grows_91 ?_
  refine a_iconst (pc := 92) C dX6_grows_92 ic_2 ?_
  refine a_iload_3 (pc := 93) C dX6_grows_93 ?_
  refine a_iload_4 (pc := 94) C dX6_grows_94 ?_
  refine a_isub (pc := 96) C dX6_grows_96 ?_
  refine a_iload_5 (pc := 97) C dX6_grows_97 ?_
  refine a_isub (pc := 99) C dX6_grows_99 ?_
  refine m_callV3v (pc := 100) C hs (fun h n u hV => ct_X6_sets l G a _ _ _ _ _ hw h n u hV) (by decide) (by decide) rfl (lw_V q1828 q1830 qs32 q77 q1831) sg_X6_sets (Nat.le_of_ble_eq_true rfl) dX6_grows_100 (fun σ20 hw => ?_)
  refine a_aload_0 (pc := 103) C dX6_grows_103 ?_
  refine a_iload_1 (pc := 104) C dX6_grows_104 ?_
  refine a_iconst (pc := 105) C dX6_grows_105 ic_3 ?_
  refine a_aload_0 (pc := 106) C dX6_grows_106 ?_
  refine a_iload_1 (pc := 107) C dX6_grows_107 ?_
  refine a_iconst (pc := 108) C dX6_grows_108 ic_3 ?_
  refine m_callV2i (pc := 109) C hs (fun h n u hV => ct_X6_of l G a _ _ _ _ hw h n u hV) (by decide) (by decide) rfl (lw_V q1844 q1846 qs35 q77 q1847) sg_X6_of (Nat.le_of_ble_eq_true rfl) dX6_grows_109 (fun v22 σ21 hw => ?_)
  refine a_iload_5 (pc := 112) C dX6_grows_112 ?_
  refine a_iadd (pc := 114) C dX6_grows_114 ?_
  refine m_callV3v (pc := 115) C hs (fun h n u hV => ct_X6_sets l G a _ _ _ _ _ hw h n u hV) (by decide) (by decide) rfl (lw_V q1828 q1830 qs32 q77 q1831) sg_X6_sets (Nat.le_of_ble_eq_true rfl) dX6_grows_115 (fun σ23 hw => ?_)
  refine a_aload_0 (pc := 118) C dX6_grows_118 ?_
  refine m_get_z (pc := 119) C q1758 dX6_grows_119 ?_
  refine a_bipush (pc := 122) C dX6_grows_122 bc_12 ?_
  refine a_dup2 (pc := 124) C dX6_grows_124 rfl rfl ?_
  refine m_iald (pc := 125) C (by decide) hw.1 dX6_grows_125 ?_
  have hw := hw.2
  refine a_iload_4 (pc := 126) C dX6_grows_126 ?_
  refine a_iadd (pc := 128) C dX6_grows_128 ?_
  refine m_iast (pc := 129) C (by decide) hw.1 dX6_grows_129 (fun σ24 eσ24 => ?_)
  have hw := hw.2 σ24 eσ24
  refine a_aload_0 (pc := 130) C dX6_grows_130 ?_
  refine a_iload_1 (pc := 131) C dX6_grows_131 ?_
  refine a_iconst (pc := 132) C dX6_grows_132 ic_4 ?_
  refine a_iload_8 (pc := 133) C dX6_grows_133 ?_
  refine jn_use hw (fun kj26 ekj26 hw => ?_)
  have hkj26 : ∀ (x27 : Int32) (σ28 : MS), kj26 x27 σ28 → AW G p l e (aRm 3 0 0) s m args below meth c (a_A h0 n0) 11 (MQ below (a_Qc G (m_pi Q h0 n0 u0 a) (a_A h0 n0)) args s 0 0 (a_A h0 n0)) (MW h0 n0 u0 a σ28) 161 [some (.ref a), some (.int p1), some (.int v2), some (.int v4), some (.int x5), some (.int x6), some (.int v8), some (.int v10), some (.int v13), some (.int v15), none] [.int x27, .int 4, .int p1, .ref a] := by
    intro x27 σ28 hw
    rw [ekj26] at hw
    refine m_callV3v (pc := 161) C hs (fun h n u hV => ct_X6_sets l G a _ _ _ _ _ hw h n u hV) (by decide) (by decide) rfl (lw_V q1828 q1830 qs32 q77 q1831) sg_X6_sets (Nat.le_of_ble_eq_true rfl) dX6_grows_161 (fun σ29 hw => ?_)
    refine a_aload_0 (pc := 164) C dX6_grows_164 ?_
    refine a_iload_1 (pc := 165) C dX6_grows_165 ?_
    refine a_bipush (pc := 166) C dX6_grows_166 bc_6 ?_
    refine m_callV2i (pc := 168) C hs (fun h n u hV => ct_X6_of l G a _ _ _ _ hw h n u hV) (by decide) (by decide) rfl (lw_V q1844 q1846 qs35 q77 q1847) sg_X6_of (Nat.le_of_ble_eq_true rfl) dX6_grows_168 (fun v31 σ30 hw => ?_)
    refine a_iload_2 (pc := 171) C dX6_grows_171 ?_
    refine a_iadd (pc := 172) C dX6_grows_172 ?_
    refine a_iload_9 (pc := 173) C dX6_grows_173 ?_
    refine a_bipush (pc := 175) C dX6_grows_175 bc_8 ?_
    refine jn_use hw (fun kj33 ekj33 hw => ?_)
    have hkj33 : ∀ (x34 : Int32), kj33 x34 → AW G p l e (aRm 3 0 0) s m args below meth c (a_A h0 n0) 11 (MQ below (a_Qc G (m_pi Q h0 n0 u0 a) (a_A h0 n0)) args s 0 0 (a_A h0 n0)) (MW h0 n0 u0 a σ30) 185 [some (.ref a), some (.int p1), some (.int v2), some (.int v4), some (.int x5), some (.int x6), some (.int v8), some (.int v10), some (.int v13), some (.int v15), none] [.int x34, .int (v31 + v2)] := by
      intro x34 hw
      rw [ekj33] at hw
      refine a_iadd (pc := 185) C dX6_grows_185 ?_
      refine a_aload_0 (pc := 186) C dX6_grows_186 ?_
      refine a_iload_1 (pc := 187) C dX6_grows_187 ?_
      refine a_iconst (pc := 188) C dX6_grows_188 ic_0 ?_
      refine m_callV2i (pc := 189) C hs (fun h n u hV => ct_X6_of l G a _ _ _ _ hw h n u hV) (by decide) (by decide) rfl (lw_V q1844 q1846 qs35 q77 q1847) sg_X6_of (Nat.le_of_ble_eq_true rfl) dX6_grows_189 (fun v36 σ35 hw => ?_)
      refine a_iconst (pc := 192) C dX6_grows_192 ic_3 ?_
      refine jn_use hw (fun kj38 ekj38 hw => ?_)
      have hkj38 : ∀ (x39 : Int32), kj38 x39 → AW G p l e (aRm 3 0 0) s m args below meth c (a_A h0 n0) 11 (MQ below (a_Qc G (m_pi Q h0 n0 u0 a) (a_A h0 n0)) args s 0 0 (a_A h0 n0)) (MW h0 n0 u0 a σ35) 201 [some (.ref a), some (.int p1), some (.int v2), some (.int v4), some (.int x5), some (.int x6), some (.int v8), some (.int v10), some (.int v13), some (.int v15), none] [.int x39, .int ((v31 + v2) + x34)] := by
        intro x39 hw
        rw [ekj38] at hw
        refine a_iadd (pc := 201) C dX6_grows_201 ?_
        refine a_iconst (pc := 202) C dX6_grows_202 ic_2 ?_
        refine a_iload_6 (pc := 203) C dX6_grows_203 ?_
        refine a_imul (pc := 205) C dX6_grows_205 ?_
        refine a_isub (pc := 206) C dX6_grows_206 ?_
        refine a_iload_7 (pc := 207) C dX6_grows_207 ?_
        refine a_isub (pc := 209) C dX6_grows_209 ?_
        refine a_topi (fun x40 ex40 => ?_)
        have hw := hw x40 ex40
        refine a_istore_10 (pc := 210) C dX6_grows_210 (by decide) rfl ?_
        refine a_aload_0 (pc := 212) C dX6_grows_212 ?_
        refine a_iload_1 (pc := 213) C dX6_grows_213 ?_
        refine a_bipush (pc := 214) C dX6_grows_214 bc_6 ?_
        refine a_bipush (pc := 216) C dX6_grows_216 bc_10 ?_
        refine a_iload_10 (pc := 218) C dX6_grows_218 ?_
        refine m_callS2p (pc := 220) C hs (fun h n u => ct_X6_most l G _ _ _ hw h n u) (by decide) (by decide) (lw_S q1934 q1935 q77 q1936) sg_X6_most (Nat.le_of_ble_eq_true rfl) dX6_grows_220 (fun v41 hw => ?_)
        refine m_callV3v (pc := 223) C hs (fun h n u hV => ct_X6_sets l G a _ _ _ _ _ hw h n u hV) (by decide) (by decide) rfl (lw_V q1828 q1830 qs32 q77 q1831) sg_X6_sets (Nat.le_of_ble_eq_true rfl) dX6_grows_223 (fun σ42 hw => ?_)
        refine a_aload_0 (pc := 226) C dX6_grows_226 ?_
        refine a_iload_1 (pc := 227) C dX6_grows_227 ?_
        refine a_bipush (pc := 228) C dX6_grows_228 bc_7 ?_
        refine a_iload_7 (pc := 230) C dX6_grows_230 ?_
        refine jn_use hw (fun kj44 ekj44 hw => ?_)
        have hkj44 : ∀ (x45 : Int32), kj44 x45 → AW G p l e (aRm 3 0 0) s m args below meth c (a_A h0 n0) 11 (MQ below (a_Qc G (m_pi Q h0 n0 u0 a) (a_A h0 n0)) args s 0 0 (a_A h0 n0)) (MW h0 n0 u0 a σ42) 258 [some (.ref a), some (.int p1), some (.int v2), some (.int v4), some (.int x5), some (.int x6), some (.int v8), some (.int v10), some (.int v13), some (.int v15), some (.int x40)] [.int x45, .int 7, .int p1, .ref a] := by
          intro x45 hw
          rw [ekj44] at hw
          refine m_callV3v (pc := 258) C hs (fun h n u hV => ct_X6_sets l G a _ _ _ _ _ hw h n u hV) (by decide) (by decide) rfl (lw_V q1828 q1830 qs32 q77 q1831) sg_X6_sets (Nat.le_of_ble_eq_true rfl) dX6_grows_258 (fun σ46 hw => ?_)
          refine a_iload_10 (pc := 261) C dX6_grows_261 ?_
          refine a_bipush (pc := 263) C dX6_grows_263 bc_42 ?_
          refine a_icmp_gt (pc := 265) C 270 dX6_grows_265 (by decide) (fun c47 => ?_) (fun c47 => ?_)
          · have hw := hw.1 c47
            refine a_aload_0 (pc := 270) C dX6_grows_270 ?_
            refine a_iload_1 (pc := 271) C dX6_grows_271 ?_
            refine a_iconst (pc := 272) C dX6_grows_272 ic_0 ?_
            refine a_bipush (pc := 273) C dX6_grows_273 bc_6 ?_
            refine m_callV3v (pc := 275) C hs (fun h n u hV => ct_X6_sets l G a _ _ _ _ _ hw h n u hV) (by decide) (by decide) rfl (lw_V q1828 q1830 qs32 q77 q1831) sg_X6_sets (Nat.le_of_ble_eq_true rfl) dX6_grows_275 (fun σ48 hw => ?_)
            refine a_aload_0 (pc := 278) C dX6_grows_278 ?_
            refine a_iload_1 (pc := 279) C dX6_grows_279 ?_
            refine a_iconst (pc := 280) C dX6_grows_280 ic_1 ?_
            refine a_iconst (pc := 281) C dX6_grows_281 ic_m1 ?_
            refine m_callV3v (pc := 282) C hs (fun h n u hV => ct_X6_sets l G a _ _ _ _ _ hw h n u hV) (by decide) (by decide) rfl (lw_V q1828 q1830 qs32 q77 q1831) sg_X6_sets (Nat.le_of_ble_eq_true rfl) dX6_grows_282 (fun σ49 hw => ?_)
            refine a_aload_0 (pc := 285) C dX6_grows_285 ?_
            refine m_get_z (pc := 286) C q1758 dX6_grows_286 ?_
            refine a_bipush (pc := 289) C dX6_grows_289 bc_11 ?_
            refine a_dup2 (pc := 291) C dX6_grows_291 rfl rfl ?_
            refine m_iald (pc := 292) C (by decide) hw.1 dX6_grows_292 ?_
            have hw := hw.2
            refine a_aload_0 (pc := 293) C dX6_grows_293 ?_
            refine a_iload_1 (pc := 294) C dX6_grows_294 ?_
            refine m_callV1i (pc := 295) C hs (fun h n u hV => ct_X6_weight l G a _ _ _ hw h n u hV) (by decide) (by decide) rfl (lw_V q1906 q1908 qs46 q77 q1909) sg_X6_weight (Nat.le_of_ble_eq_true rfl) dX6_grows_295 (fun v51 σ50 hw => ?_)
            refine a_iadd (pc := 298) C dX6_grows_298 ?_
            refine m_iast (pc := 299) C (by decide) hw.1 dX6_grows_299 (fun σ52 eσ52 => ?_)
            have hw := hw.2 σ52 eσ52
            refine a_aload_0 (pc := 300) C dX6_grows_300 ?_
            refine a_bipush (pc := 301) C dX6_grows_301 bc_6 ?_
            refine a_iload_1 (pc := 303) C dX6_grows_303 ?_
            refine m_callV2v (pc := 304) C hs (fun h n u hV => ct_X6_books l G a _ _ _ _ hw h n u hV) (by decide) (by decide) rfl (lw_V q1860 q1862 qs39 q77 q1863) sg_X6_books (Nat.le_of_ble_eq_true rfl) dX6_grows_304 (fun σ53 hw => ?_)
            refine a_iconst (pc := 307) C dX6_grows_307 ic_1 ?_
            exact a_iret C dX6_grows_308 (fun h n u hV => ⟨⟨(_, _), rfl, hw, hV⟩, m_end hs hV⟩)
          · have hw := hw.2 c47
            refine a_iconst (pc := 268) C dX6_grows_268 ic_0 ?_
            exact a_iret C dX6_grows_269 (fun h n u hV => ⟨⟨(_, _), rfl, hw, hV⟩, m_end hs hV⟩)
        refine a_if_le (pc := 232) C 249 dX6_grows_232 (by decide) (fun c43 => ?_) (fun c43 => ?_)
        · have hw := hw.1 c43
          refine a_bipush (pc := 249) C dX6_grows_249 bc_20 ?_
          refine a_iload_9 (pc := 251) C dX6_grows_251 ?_
          refine a_iconst (pc := 253) C dX6_grows_253 ic_1 ?_
          refine a_iadd (pc := 254) C dX6_grows_254 ?_
          refine m_callS2p (pc := 255) C hs (fun h n u => ct_X6_least l G _ _ _ hw h n u) (by decide) (by decide) (lw_S q1864 q1865 q77 q1866) sg_X6_least (Nat.le_of_ble_eq_true rfl) dX6_grows_255 (fun v54 hw => ?_)
          exact hkj44 _ hw
        · have hw := hw.2 c43
          refine a_iconst (pc := 235) C dX6_grows_235 ic_0 ?_
          refine a_iload_9 (pc := 236) C dX6_grows_236 ?_
          refine a_iconst (pc := 238) C dX6_grows_238 ic_3 ?_
          refine a_iload_7 (pc := 239) C dX6_grows_239 ?_
          refine a_imul (pc := 241) C dX6_grows_241 ?_
          refine a_isub (pc := 242) C dX6_grows_242 ?_
          refine m_callS2p (pc := 243) C hs (fun h n u => ct_X6_most l G _ _ _ hw h n u) (by decide) (by decide) (lw_S q1934 q1935 q77 q1936) sg_X6_most (Nat.le_of_ble_eq_true rfl) dX6_grows_243 (fun v55 hw => ?_)
          refine a_goto (pc := 246) C 258 dX6_grows_246 (by decide) ?_
          exact hkj44 _ hw
      refine a_icmp_ne (pc := 193) C 200 dX6_grows_193 (by decide) (fun c37 => ?_) (fun c37 => ?_)
      · have hw := hw.1 c37
        refine a_iconst (pc := 200) C dX6_grows_200 ic_0 ?_
        exact hkj38 _ hw
      · have hw := hw.2 c37
        refine a_iconst (pc := 196) C dX6_grows_196 ic_1 ?_
        refine a_goto (pc := 197) C 201 dX6_grows_197 (by decide) ?_
        exact hkj38 _ hw
    refine a_icmp_lt (pc := 177) C 184 dX6_grows_177 (by decide) (fun c32 => ?_) (fun c32 => ?_)
    · have hw := hw.1 c32
      refine a_iconst (pc := 184) C dX6_grows_184 ic_0 ?_
      exact hkj33 _ hw
    · have hw := hw.2 c32
      refine a_iconst (pc := 180) C dX6_grows_180 ic_1 ?_
      refine a_goto (pc := 181) C 185 dX6_grows_181 (by decide) ?_
      exact hkj33 _ hw
  refine a_if_le (pc := 135) C 155 dX6_grows_135 (by decide) (fun c25 => ?_) (fun c25 => ?_)
  · have hw := hw.1 c25
    refine a_aload_0 (pc := 155) C dX6_grows_155 ?_
    refine a_iload_1 (pc := 156) C dX6_grows_156 ?_
    refine a_iconst (pc := 157) C dX6_grows_157 ic_4 ?_
    refine m_callV2i (pc := 158) C hs (fun h n u hV => ct_X6_of l G a _ _ _ _ hw h n u hV) (by decide) (by decide) rfl (lw_V q1844 q1846 qs35 q77 q1847) sg_X6_of (Nat.le_of_ble_eq_true rfl) dX6_grows_158 (fun v57 σ56 hw => ?_)
    exact hkj26 _ _ hw
  · have hw := hw.2 c25
    refine a_bipush (pc := 138) C dX6_grows_138 bc_12 ?_
    refine a_aload_0 (pc := 140) C dX6_grows_140 ?_
    refine a_iload_1 (pc := 141) C dX6_grows_141 ?_
    refine a_iconst (pc := 142) C dX6_grows_142 ic_4 ?_
    refine m_callV2i (pc := 143) C hs (fun h n u hV => ct_X6_of l G a _ _ _ _ hw h n u hV) (by decide) (by decide) rfl (lw_V q1844 q1846 qs35 q77 q1847) sg_X6_of (Nat.le_of_ble_eq_true rfl) dX6_grows_143 (fun v59 σ58 hw => ?_)
    refine a_iload_8 (pc := 146) C dX6_grows_146 ?_
    refine a_isub (pc := 148) C dX6_grows_148 ?_
    refine m_callS2p (pc := 149) C hs (fun h n u => ct_X6_most l G _ _ _ hw h n u) (by decide) (by decide) (lw_S q1934 q1935 q77 q1936) sg_X6_most (Nat.le_of_ble_eq_true rfl) dX6_grows_149 (fun v60 hw => ?_)
    refine a_goto (pc := 152) C 161 dX6_grows_152 (by decide) ?_
    exact hkj26 _ _ hw
