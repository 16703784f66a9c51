set_option maxRecDepth 100000
/-! THE MODEL's METHODS, 2: what a run of each needs (wp_), and its contract (ct_); by program -/
def wp_X6_kilnHeat (p1 : Int32) (σ : MS) (Q : Int32 → MS → Prop) : Prop := (((p1 ≤ 10) → (vp_in 3 (mLen 0) ∧ (Q (σ 0 (3 : Int32).toNatClampNeg) σ))) ∧ ((¬ p1 ≤ 10) → (vp_in 4 (mLen 0) ∧ (Q (σ 0 (4 : Int32).toNatClampNeg) σ))))
theorem sg_X6_kilnHeat : aSig yX6_kilnHeat 1 := by decide +kernel
set_option maxHeartbeats 4000000 in
theorem ct_X6_kilnHeat (l : Launch) (G : aG) (a : Nat) (p1 : Int32)  (σ : MS) (Q : Int32 → MS → Prop) (hw : wp_X6_kilnHeat p1 σ Q) (h0 : AH) (n0 u0 : Nat) (hV : MV h0 a σ) : CT l yX6_kilnHeat (ws_ yX6_kilnHeat cX6_kilnHeat 2 (some .int)) 1 G [.ref a, .int p1] h0 n0 u0 0 0 (m_pi Q h0 n0 u0 a) := by
  refine CT.intro [some (.ref a), some (.int p1)] pn_RX6 rfl (Nat.le_of_ble_eq_true rfl) ?_
  intro p e s m args below meth c C hz hu
  have hs : s.heap.size = n0 ∧ slT s.heap = u0 := ⟨hz, hu⟩
  refine a_world (V1 := MW h0 n0 u0 a σ) (MW.start hV) ?_
  unfold wp_X6_kilnHeat at hw
  refine a_iload_1 (pc := 0) C dX6_kilnHeat_0 ?_
  refine a_bipush (pc := 1) C dX6_kilnHeat_1 bc_10 ?_
  refine a_icmp_le (pc := 3) C 15 dX6_kilnHeat_3 (by decide) (fun c1 => ?_) (fun c1 => ?_)
  · have hw := hw.1 c1
    refine a_aload_0 (pc := 15) C dX6_kilnHeat_15 ?_
    refine m_get_z (pc := 16) C q1758 dX6_kilnHeat_16 ?_
    refine a_iconst (pc := 19) C dX6_kilnHeat_19 ic_3 ?_
    refine m_iald (pc := 20) C (by decide) hw.1 dX6_kilnHeat_20 ?_
    have hw := hw.2
    exact a_iret C dX6_kilnHeat_21 (fun h n u hV => ⟨⟨(_, _), rfl, hw, hV⟩, m_end hs hV⟩)
  · have hw := hw.2 c1
    refine a_aload_0 (pc := 6) C dX6_kilnHeat_6 ?_
    refine m_get_z (pc := 7) C q1758 dX6_kilnHeat_7 ?_
    refine a_iconst (pc := 10) C dX6_kilnHeat_10 ic_4 ?_
    refine m_iald (pc := 11) C (by decide) hw.1 dX6_kilnHeat_11 ?_
    have hw := hw.2
    refine a_goto (pc := 12) C 21 dX6_kilnHeat_12 (by decide) ?_
    exact a_iret C dX6_kilnHeat_21 (fun h n u hV => ⟨⟨(_, _), rfl, hw, hV⟩, m_end hs hV⟩)
def wp_X6_dries (p1 : Int32) (σ : MS) (Q : MS → Prop) : Prop := (vp_in 2 (mLen 0) ∧ (wp_X6_kilnHeat ((σ 0 (2 : Int32).toNatClampNeg) + 1) σ (fun v2 σ1 => (wp_X6_of p1 4 σ1 (fun v4 σ3 => (wp_X6_sets p1 6 v2 σ3 (fun σ5 => (wp_X6_most 3 (v4 - (v2 / 20)) (fun v6 => (wp_X6_sets p1 4 v6 σ5 (fun σ7 => (jn (fun (x10 : Int32) (σ11 : MS) => (wp_X6_sets p1 8 x10 σ11 (fun σ12 => (Q σ12)))) (fun kj9 => (((v2 ≤ 80) → (wp_X6_of p1 8 σ7 (fun v14 σ13 => (kj9 v14 σ13)))) ∧ ((¬ v2 ≤ 80) → (((v4 ≤ 20) → (wp_X6_of p1 8 σ7 (fun v17 σ16 => (kj9 v17 σ16)))) ∧ ((¬ v4 ≤ 20) → (kj9 1 σ7))))))))))))))))))
theorem sg_X6_dries : aSig yX6_dries 1 := by decide +kernel
set_option maxHeartbeats 4000000 in
theorem ct_X6_dries (l : Launch) (G : aG) (a : Nat) (p1 : Int32)  (σ : MS) (Q : MS → Prop) (hw : wp_X6_dries p1 σ Q) (h0 : AH) (n0 u0 : Nat) (hV : MV h0 a σ) : CT l yX6_dries (ws_ yX6_dries cX6_dries 4 none) 2 G [.ref a, .int p1] h0 n0 u0 0 0 (m_pv Q h0 n0 u0 a) := by
  refine CT.intro [some (.ref a), some (.int p1), none, none] pn_RX6 rfl (Nat.le_of_ble_eq_true rfl) ?_
  intro p e s m args below meth c C hz hu
  have hs : s.heap.size = n0 ∧ slT s.heap = u0 := ⟨hz, hu⟩
  refine a_world (V1 := MW h0 n0 u0 a σ) (MW.start hV) ?_
  unfold wp_X6_dries at hw
  refine a_aload_0 (pc := 0) C dX6_dries_0 ?_
  refine a_aload_0 (pc := 1) C dX6_dries_1 ?_
  refine m_get_z (pc := 2) C q1758 dX6_dries_2 ?_
  refine a_iconst (pc := 5) C dX6_dries_5 ic_2 ?_
  refine m_iald (pc := 6) C (by decide) hw.1 dX6_dries_6 ?_
  have hw := hw.2
  refine a_iconst (pc := 7) C dX6_dries_7 ic_1 ?_
  refine a_iadd (pc := 8) C dX6_dries_8 ?_
  refine m_callV1i (pc := 9) C hs (fun h n u hV => ct_X6_kilnHeat l G a _ _ _ hw h n u hV) (by decide) (by decide) rfl (lw_V q1985 q1987 qs57 q77 q1988) sg_X6_kilnHeat (Nat.le_of_ble_eq_true rfl) dX6_dries_9 (fun v2 σ1 hw => ?_)
  refine a_istore_2 (pc := 12) C dX6_dries_12 (by decide) rfl ?_
  refine a_aload_0 (pc := 13) C dX6_dries_13 ?_
  refine a_iload_1 (pc := 14) C dX6_dries_14 ?_
  refine a_iconst (pc := 15) C dX6_dries_15 ic_4 ?_
  refine m_callV2i (pc := 16) C hs (fun h n u hV => ct_X6_of l G a _ _ _ _ hw h n u hV) (by decide) (by decide) rfl (lw_V q1844 q1846 qs35 q77 q1847) sg_X6_of (Nat.le_of_ble_eq_true rfl) dX6_dries_16 (fun v4 σ3 hw => ?_)
  refine a_istore_3 (pc := 19) C dX6_dries_19 (by decide) rfl ?_
  refine a_aload_0 (pc := 20) C dX6_dries_20 ?_
  refine a_iload_1 (pc := 21) C dX6_dries_21 ?_
  refine a_bipush (pc := 22) C dX6_dries_22 bc_6 ?_
  refine a_iload_2 (pc := 24) C dX6_dries_24 ?_
  refine m_callV3v (pc := 25) C hs (fun h n u hV => ct_X6_sets l G a _ _ _ _ _ hw h n u hV) (by decide) (by decide) rfl (lw_V q1828 q1830 qs32 q77 q1831) sg_X6_sets (Nat.le_of_ble_eq_true rfl) dX6_dries_25 (fun σ5 hw => ?_)
  refine a_aload_0 (pc := 28) C dX6_dries_28 ?_
  refine a_iload_1 (pc := 29) C dX6_dries_29 ?_
  refine a_iconst (pc := 30) C dX6_dries_30 ic_4 ?_
  refine a_iconst (pc := 31) C dX6_dries_31 ic_3 ?_
  refine a_iload_3 (pc := 32) C dX6_dries_32 ?_
  refine a_iload_2 (pc := 33) C dX6_dries_33 ?_
  refine a_bipush (pc := 34) C dX6_dries_34 bc_20 ?_
  refine a_idiv (pc := 36) C dX6_dries_36 (by decide) ?_
  refine a_isub (pc := 37) C dX6_dries_37 ?_
  refine m_callS2p (pc := 38) C hs (fun h n u => ct_X6_most l G _ _ _ hw h n u) (by decide) (by decide) (lw_S q1934 q1935 q77 q1936) sg_X6_most (Nat.le_of_ble_eq_true rfl) dX6_dries_38 (fun v6 hw => ?_)
  refine m_callV3v (pc := 41) C hs (fun h n u hV => ct_X6_sets l G a _ _ _ _ _ hw h n u hV) (by decide) (by decide) rfl (lw_V q1828 q1830 qs32 q77 q1831) sg_X6_sets (Nat.le_of_ble_eq_true rfl) dX6_dries_41 (fun σ7 hw => ?_)
  refine a_aload_0 (pc := 44) C dX6_dries_44 ?_
  refine a_iload_1 (pc := 45) C dX6_dries_45 ?_
  refine a_bipush (pc := 46) C dX6_dries_46 bc_8 ?_
  refine a_iload_2 (pc := 48) C dX6_dries_48 ?_
  refine a_bipush (pc := 49) C dX6_dries_49 bc_80 ?_
  refine jn_use hw (fun kj9 ekj9 hw => ?_)
  have hkj9 : ∀ (x10 : Int32) (σ11 : MS), kj9 x10 σ11 → AW G p l e (aRm 2 0 0) s m args below meth c (a_A h0 n0) 4 (MQ below (a_Qc G (m_pv Q h0 n0 u0 a) (a_A h0 n0)) args s 0 0 (a_A h0 n0)) (MW h0 n0 u0 a σ11) 71 [some (.ref a), some (.int p1), some (.int v2), some (.int v4)] [.int x10, .int 8, .int p1, .ref a] := by
    intro x10 σ11 hw
    rw [ekj9] at hw
    refine m_callV3v (pc := 71) C hs (fun h n u hV => ct_X6_sets l G a _ _ _ _ _ hw h n u hV) (by decide) (by decide) rfl (lw_V q1828 q1830 qs32 q77 q1831) sg_X6_sets (Nat.le_of_ble_eq_true rfl) dX6_dries_71 (fun σ12 hw => ?_)
    exact a_vret C dX6_dries_74 (fun h n u hV => ⟨⟨_, rfl, hw, hV⟩, m_end hs hV⟩)
  refine a_icmp_le (pc := 51) C 64 dX6_dries_51 (by decide) (fun c8 => ?_) (fun c8 => ?_)
  · have hw := hw.1 c8
    refine a_aload_0 (pc := 64) C dX6_dries_64 ?_
    refine a_iload_1 (pc := 65) C dX6_dries_65 ?_
    refine a_bipush (pc := 66) C dX6_dries_66 bc_8 ?_
    refine m_callV2i (pc := 68) C hs (fun h n u hV => ct_X6_of l G a _ _ _ _ hw h n u hV) (by decide) (by decide) rfl (lw_V q1844 q1846 qs35 q77 q1847) sg_X6_of (Nat.le_of_ble_eq_true rfl) dX6_dries_68 (fun v14 σ13 hw => ?_)
    exact hkj9 _ _ hw
  · have hw := hw.2 c8
    refine a_iload_3 (pc := 54) C dX6_dries_54 ?_
    refine a_bipush (pc := 55) C dX6_dries_55 bc_20 ?_
    refine a_icmp_le (pc := 57) C 64 dX6_dries_57 (by decide) (fun c15 => ?_) (fun c15 => ?_)
    · have hw := hw.1 c15
      refine a_aload_0 (pc := 64) C dX6_dries_64 ?_
      refine a_iload_1 (pc := 65) C dX6_dries_65 ?_
      refine a_bipush (pc := 66) C dX6_dries_66 bc_8 ?_
      refine m_callV2i (pc := 68) C hs (fun h n u hV => ct_X6_of l G a _ _ _ _ hw h n u hV) (by decide) (by decide) rfl (lw_V q1844 q1846 qs35 q77 q1847) sg_X6_of (Nat.le_of_ble_eq_true rfl) dX6_dries_68 (fun v17 σ16 hw => ?_)
      exact hkj9 _ _ hw
    · have hw := hw.2 c15
      refine a_iconst (pc := 60) C dX6_dries_60 ic_1 ?_
      refine a_goto (pc := 61) C 71 dX6_dries_61 (by decide) ?_
      exact hkj9 _ _ hw
def wp_X6_malts_L53 (kx12 : Int32 → MS → Prop) (x7 : Int32) : Nat → Int32 → MS → Prop
  | 0, _, _ => False
  | F + 1, x10, σ11 => (vp_in 7 (mLen 0) ∧ ((((σ11 0 (7 : Int32).toNatClampNeg) ≤ x10) → (kx12 x10 σ11)) ∧ ((¬ (σ11 0 (7 : Int32).toNatClampNeg) ≤ x10) → (((x7 ≤ 0) → (kx12 x10 σ11)) ∧ ((¬ x7 ≤ 0) → (wp_X6_of x10 0 σ11 (fun v18 σ17 => (jn (fun (σ21 : MS) => (wp_X6_malts_L53 kx12 x7 F (x10 + 1) σ21)) (fun kj20 => (((¬ v18 = 4) → (kj20 σ17)) ∧ ((v18 = 4) → (wp_X6_sets x10 0 5 σ17 (fun σ22 => (vp_in 9 (mLen 0) ∧ (wp_X6_of x10 2 σ22 (fun v24 σ23 => (vp_in 9 (mLen 0) ∧ ∀ σ25 : MS, σ25 = mU σ23 0 (9 : Int32).toNatClampNeg ((σ22 0 (9 : Int32).toNatClampNeg) + v24) → (vp_in 10 (mLen 0) ∧ (wp_X6_of x10 3 σ25 (fun v27 σ26 => (vp_in 10 (mLen 0) ∧ ∀ σ28 : MS, σ28 = mU σ26 0 (10 : Int32).toNatClampNeg ((σ25 0 (10 : Int32).toNatClampNeg) + v27) → (wp_X6_books 7 x10 σ28 (fun σ29 => (kj20 σ29))))))))))))))))))))))))
def wp_X6_malts_L8 (kx6 : Int32 → Int32 → MS → Prop) : Nat → Int32 → Int32 → MS → Prop
  | 0, _, _, _ => False
  | F + 1, x3, x4, σ5 => (vp_in 7 (mLen 0) ∧ ((((σ5 0 (7 : Int32).toNatClampNeg) ≤ x4) → (kx6 x3 x4 σ5)) ∧ ((¬ (σ5 0 (7 : Int32).toNatClampNeg) ≤ x4) → (wp_X6_of x4 0 σ5 (fun v32 σ31 => (jn (fun (x35 : Int32) (σ36 : MS) => (wp_X6_malts_L8 kx6 F x35 (x4 + 1) σ36)) (fun kj34 => (((¬ v32 = 4) → (kj34 x3 σ31)) ∧ ((v32 = 4) → (wp_X6_of x4 4 σ31 (fun v38 σ37 => (((v38 ≤ 4) → (kj34 x3 σ37)) ∧ ((¬ v38 ≤ 4) → (kj34 0 σ37))))))))))))))
def wp_X6_malts (σ : MS) (Q : Int32 → MS → Prop) : Prop := (wp_X6_countIn 4 σ (fun v2 σ1 => (jn (fun (x7 : Int32) (x8 : Int32) (σ9 : MS) => (jn (fun (x13 : Int32) (σ14 : MS) => (Q x7 σ14)) (fun kx12 => wp_X6_malts_L53 kx12 x7 mF 0 σ9))) (fun kx6 => wp_X6_malts_L8 kx6 mF v2 0 σ1))))
theorem sg_X6_malts : aSig yX6_malts 0 := by decide +kernel
set_option maxHeartbeats 4000000 in
theorem ct_X6_malts (l : Launch) (G : aG) (a : Nat)   (σ : MS) (Q : Int32 → MS → Prop) (hw : wp_X6_malts  σ Q) (h0 : AH) (n0 u0 : Nat) (hV : MV h0 a σ) : CT l yX6_malts (ws_ yX6_malts cX6_malts 3 (some .int)) 3 G [.ref a] h0 n0 u0 0 0 (m_pi Q h0 n0 u0 a) := by
  refine CT.intro [some (.ref a), none, none] pn_RX6 rfl (Nat.le_of_ble_eq_true rfl) ?_
  intro p e s m args below meth c C hz hu
  have hs : s.heap.size = n0 ∧ slT s.heap = u0 := ⟨hz, hu⟩
  refine a_world (V1 := MW h0 n0 u0 a σ) (MW.start hV) ?_
  unfold wp_X6_malts at hw
  refine a_aload_0 (pc := 0) C dX6_malts_0 ?_
  refine a_iconst (pc := 1) C dX6_malts_1 ic_4 ?_
  refine m_callV1i (pc := 2) C hs (fun h n u hV => ct_X6_countIn l G a _ _ _ hw h n u hV) (by decide) (by decide) rfl (lw_V q1848 q1850 qs36 q77 q1851) sg_X6_countIn (Nat.le_of_ble_eq_true rfl) dX6_malts_2 (fun v2 σ1 hw => ?_)
  refine a_istore_1 (pc := 5) C dX6_malts_5 (by decide) rfl ?_
  refine a_iconst (pc := 6) C dX6_malts_6 ic_0 ?_
  refine a_istore_2 (pc := 7) C dX6_malts_7 (by decide) rfl ?_
  refine jn_use hw (fun kx6 ekx6 hw => ?_)
  have hkx6 : ∀ (x7 : Int32) (x8 : Int32) (σ9 : MS), kx6 x7 x8 σ9 → AW G p l e (aRm 3 0 0) s m args below meth c (a_A h0 n0) 3 (MQ below (a_Qc G (m_pi Q h0 n0 u0 a) (a_A h0 n0)) args s 0 0 (a_A h0 n0)) (MW h0 n0 u0 a σ9) 51 [some (.ref a), some (.int x7), some (.int x8)] [] := by
    intro x7 x8 σ9 hw
    rw [ekx6] at hw
    refine a_iconst (pc := 51) C dX6_malts_51 ic_0 ?_
    refine a_istore_2 (pc := 52) C dX6_malts_52 (by decide) rfl ?_
    refine jn_use hw (fun kx12 ekx12 hw => ?_)
    have hkx12 : ∀ (x13 : Int32) (σ14 : MS), kx12 x13 σ14 → AW G p l e (aRm 3 0 0) s m args below meth c (a_A h0 n0) 3 (MQ below (a_Qc G (m_pi Q h0 n0 u0 a) (a_A h0 n0)) args s 0 0 (a_A h0 n0)) (MW h0 n0 u0 a σ14) 130 [some (.ref a), some (.int x7), some (.int x13)] [] := by
      intro x13 σ14 hw
      rw [ekx12] at hw
      refine a_iload_1 (pc := 130) C dX6_malts_130 ?_
      exact a_iret C dX6_malts_131 (fun h n u hV => ⟨⟨(_, _), rfl, hw, hV⟩, m_end hs hV⟩)
    have lp53 : ∀ (F : Nat) (x10 : Int32) (σ11 : MS), wp_X6_malts_L53 kx12 x7 F x10 σ11 → AW G p l e (aRm 3 0 0) s m args below meth c (a_A h0 n0) 3 (MQ below (a_Qc G (m_pi Q h0 n0 u0 a) (a_A h0 n0)) args s 0 0 (a_A h0 n0)) (MW h0 n0 u0 a σ11) 53 [some (.ref a), some (.int x7), some (.int x10)] [] := by
      intro F
      induction F with
      | zero => intro x10 σ11 hw; exact False.elim hw
      | succ F ih =>
        intro x10 σ11 hw
        rw [wp_X6_malts_L53] at hw
        refine a_iload_2 (pc := 53) C dX6_malts_53 ?_
        refine a_aload_0 (pc := 54) C dX6_malts_54 ?_
        refine m_get_z (pc := 55) C q1758 dX6_malts_55 ?_
        refine a_bipush (pc := 58) C dX6_malts_58 bc_7 ?_
        refine m_iald (pc := 60) C (by decide) hw.1 dX6_malts_60 ?_
        have hw := hw.2
        refine a_icmp_ge (pc := 61) C 130 dX6_malts_61 (by decide) (fun c15 => ?_) (fun c15 => ?_)
        · have hw := hw.1 c15
          exact hkx12 _ _ hw
        · have hw := hw.2 c15
          refine a_iload_1 (pc := 64) C dX6_malts_64 ?_
          refine a_if_le (pc := 65) C 130 dX6_malts_65 (by decide) (fun c16 => ?_) (fun c16 => ?_)
          · have hw := hw.1 c16
            exact hkx12 _ _ hw
          · have hw := hw.2 c16
            refine a_aload_0 (pc := 68) C dX6_malts_68 ?_
            refine a_iload_2 (pc := 69) C dX6_malts_69 ?_
            refine a_iconst (pc := 70) C dX6_malts_70 ic_0 ?_
            refine m_callV2i (pc := 71) C hs (fun h n u hV => ct_X6_of l G a _ _ _ _ hw h n u hV) (by decide) (by decide) rfl (lw_V q1844 q1846 qs35 q77 q1847) sg_X6_of (Nat.le_of_ble_eq_true rfl) dX6_malts_71 (fun v18 σ17 hw => ?_)
            refine a_iconst (pc := 74) C dX6_malts_74 ic_4 ?_
            refine jn_use hw (fun kj20 ekj20 hw => ?_)
            have hkj20 : ∀ (σ21 : MS), kj20 σ21 → AW G p l e (aRm 3 0 0) s m args below meth c (a_A h0 n0) 3 (MQ below (a_Qc G (m_pi Q h0 n0 u0 a) (a_A h0 n0)) args s 0 0 (a_A h0 n0)) (MW h0 n0 u0 a σ21) 124 [some (.ref a), some (.int x7), some (.int x10)] [] := by
              intro σ21 hw
              rw [ekj20] at hw
              refine a_iinc_2 (pc := 124) (v := 1) C dX6_malts_124 (by decide) (by decide) rfl ?_
              refine a_goto (pc := 127) C 53 dX6_malts_127 (by decide) ?_
              exact ih _ _ hw
            refine a_icmp_ne (pc := 75) C 124 dX6_malts_75 (by decide) (fun c19 => ?_) (fun c19 => ?_)
            · have hw := hw.1 c19
              exact hkj20 _ hw
            · have hw := hw.2 c19
              refine a_aload_0 (pc := 78) C dX6_malts_78 ?_
              refine a_iload_2 (pc := 79) C dX6_malts_79 ?_
              refine a_iconst (pc := 80) C dX6_malts_80 ic_0 ?_
              refine a_iconst (pc := 81) C dX6_malts_81 ic_5 ?_
              refine m_callV3v (pc := 82) C hs (fun h n u hV => ct_X6_sets l G a _ _ _ _ _ hw h n u hV) (by decide) (by decide) rfl (lw_V q1828 q1830 qs32 q77 q1831) sg_X6_sets (Nat.le_of_ble_eq_true rfl) dX6_malts_82 (fun σ22 hw => ?_)
              refine a_aload_0 (pc := 85) C dX6_malts_85 ?_
              refine m_get_z (pc := 86) C q1758 dX6_malts_86 ?_
              refine a_bipush (pc := 89) C dX6_malts_89 bc_9 ?_
              refine a_dup2 (pc := 91) C dX6_malts_91 rfl rfl ?_
              refine m_iald (pc := 92) C (by decide) hw.1 dX6_malts_92 ?_
              have hw := hw.2
              refine a_aload_0 (pc := 93) C dX6_malts_93 ?_
              refine a_iload_2 (pc := 94) C dX6_malts_94 ?_
              refine a_iconst (pc := 95) C dX6_malts_95 ic_2 ?_
              refine m_callV2i (pc := 96) C hs (fun h n u hV => ct_X6_of l G a _ _ _ _ hw h n u hV) (by decide) (by decide) rfl (lw_V q1844 q1846 qs35 q77 q1847) sg_X6_of (Nat.le_of_ble_eq_true rfl) dX6_malts_96 (fun v24 σ23 hw => ?_)
              refine a_iadd (pc := 99) C dX6_malts_99 ?_
              refine m_iast (pc := 100) C (by decide) hw.1 dX6_malts_100 (fun σ25 eσ25 => ?_)
              have hw := hw.2 σ25 eσ25
              refine a_aload_0 (pc := 101) C dX6_malts_101 ?_
              refine m_get_z (pc := 102) C q1758 dX6_malts_102 ?_
              refine a_bipush (pc := 105) C dX6_malts_105 bc_10 ?_
              refine a_dup2 (pc := 107) C dX6_malts_107 rfl rfl ?_
              refine m_iald (pc := 108) C (by decide) hw.1 dX6_malts_108 ?_
              have hw := hw.2
              refine a_aload_0 (pc := 109) C dX6_malts_109 ?_
              refine a_iload_2 (pc := 110) C dX6_malts_110 ?_
              refine a_iconst (pc := 111) C dX6_malts_111 ic_3 ?_
              refine m_callV2i (pc := 112) C hs (fun h n u hV => ct_X6_of l G a _ _ _ _ hw h n u hV) (by decide) (by decide) rfl (lw_V q1844 q1846 qs35 q77 q1847) sg_X6_of (Nat.le_of_ble_eq_true rfl) dX6_malts_112 (fun v27 σ26 hw => ?_)
              refine a_iadd (pc := 115) C dX6_malts_115 ?_
              refine m_iast (pc := 116) C (by decide) hw.1 dX6_malts_116 (fun σ28 eσ28 => ?_)
              have hw := hw.2 σ28 eσ28
              refine a_aload_0 (pc := 117) C dX6_malts_117 ?_
              refine a_bipush (pc := 118) C dX6_malts_118 bc_7 ?_
              refine a_iload_2 (pc := 120) C dX6_malts_120 ?_
              refine m_callV2v (pc := 121) C hs (fun h n u hV => ct_X6_books l G a _ _ _ _ hw h n u hV) (by decide) (by decide) rfl (lw_V q1860 q1862 qs39 q77 q1863) sg_X6_books (Nat.le_of_ble_eq_true rfl) dX6_malts_121 (fun σ29 hw => ?_)
              exact hkj20 _ hw
    exact lp53 mF _ _ hw
  have lp8 : ∀ (F : Nat) (x3 : Int32) (x4 : Int32) (σ5 : MS), wp_X6_malts_L8 kx6 F x3 x4 σ5 → AW G p l e (aRm 3 0 0) s m args below meth c (a_A h0 n0) 3 (MQ below (a_Qc G (m_pi Q h0 n0 u0 a) (a_A h0 n0)) args s 0 0 (a_A h0 n0)) (MW h0 n0 u0 a σ5) 8 [some (.ref a), some (.int x3), some (.int x4)] [] := by
    intro F
    induction F with
    | zero => intro x3 x4 σ5 hw; exact False.elim hw
    | succ F ih =>
      intro x3 x4 σ5 hw
      rw [wp_X6_malts_L8] at hw
      refine a_iload_2 (pc := 8) C dX6_malts_8 ?_
      refine a_aload_0 (pc := 9) C dX6_malts_9 ?_
      refine m_get_z (pc := 10) C q1758 dX6_malts_10 ?_
      refine a_bipush (pc := 13) C dX6_malts_13 bc_7 ?_
      refine m_iald (pc := 15) C (by decide) hw.1 dX6_malts_15 ?_
      have hw := hw.2
      refine a_icmp_ge (pc := 16) C 51 dX6_malts_16 (by decide) (fun c30 => ?_) (fun c30 => ?_)
      · have hw := hw.1 c30
        exact hkx6 _ _ _ hw
      · have hw := hw.2 c30
        refine a_aload_0 (pc := 19) C dX6_malts_19 ?_
        refine a_iload_2 (pc := 20) C dX6_malts_20 ?_
        refine a_iconst (pc := 21) C dX6_malts_21 ic_0 ?_
        refine m_callV2i (pc := 22) C hs (fun h n u hV => ct_X6_of l G a _ _ _ _ hw h n u hV) (by decide) (by decide) rfl (lw_V q1844 q1846 qs35 q77 q1847) sg_X6_of (Nat.le_of_ble_eq_true rfl) dX6_malts_22 (fun v32 σ31 hw => ?_)
        refine a_iconst (pc := 25) C dX6_malts_25 ic_4 ?_
        refine jn_use hw (fun kj34 ekj34 hw => ?_)
        have hkj34 : ∀ (x35 : Int32) (σ36 : MS), kj34 x35 σ36 → AW G p l e (aRm 3 0 0) s m args below meth c (a_A h0 n0) 3 (MQ below (a_Qc G (m_pi Q h0 n0 u0 a) (a_A h0 n0)) args s 0 0 (a_A h0 n0)) (MW h0 n0 u0 a σ36) 44 [some (.ref a), some (.int x3), some (.int x4)] [.int x35] := by
          intro x35 σ36 hw
          rw [ekj34] at hw
          refine a_istore_1 (pc := 44) C dX6_malts_44 (by decide) rfl ?_
          refine a_iinc_2 (pc := 45) (v := 1) C dX6_malts_45 (by decide) (by decide) rfl ?_
          refine a_goto (pc := 48) C 8 dX6_malts_48 (by decide) ?_
          exact ih _ _ _ hw
        refine a_icmp_ne (pc := 26) C 43 dX6_malts_26 (by decide) (fun c33 => ?_) (fun c33 => ?_)
        · have hw := hw.1 c33
          refine a_iload_1 (pc := 43) C dX6_malts_43 ?_
          exact hkj34 _ _ hw
        · have hw := hw.2 c33
          refine a_aload_0 (pc := 29) C dX6_malts_29 ?_
          refine a_iload_2 (pc := 30) C dX6_malts_30 ?_
          refine a_iconst (pc := 31) C dX6_malts_31 ic_4 ?_
          refine m_callV2i (pc := 32) C hs (fun h n u hV => ct_X6_of l G a _ _ _ _ hw h n u hV) (by decide) (by decide) rfl (lw_V q1844 q1846 qs35 q77 q1847) sg_X6_of (Nat.le_of_ble_eq_true rfl) dX6_malts_32 (fun v38 σ37 hw => ?_)
          refine a_iconst (pc := 35) C dX6_malts_35 ic_4 ?_
          refine a_icmp_le (pc := 36) C 43 dX6_malts_36 (by decide) (fun c39 => ?_) (fun c39 => ?_)
          · have hw := hw.1 c39
            refine a_iload_1 (pc := 43) C dX6_malts_43 ?_
            exact hkj34 _ _ hw
          · have hw := hw.2 c39
            refine a_iconst (pc := 39) C dX6_malts_39 ic_0 ?_
            refine a_goto (pc := 40) C 44 dX6_malts_40 (by decide) ?_
            exact hkj34 _ _ hw
  exact lp8 mF _ _ _ hw
def wp_X6_hour_L49 (kx9 : Int32 → Int32 → MS → Prop) : Nat → Int32 → Int32 → MS → Prop
  | 0, _, _, _ => False
  | F + 1, x6, x7, σ8 => (vp_in 7 (mLen 0) ∧ ((((σ8 0 (7 : Int32).toNatClampNeg) ≤ x7) → (kx9 x6 x7 σ8)) ∧ ((¬ (σ8 0 (7 : Int32).toNatClampNeg) ≤ x7) → (wp_X6_of x7 0 σ8 (fun v27 σ26 => (jn (fun (x30 : Int32) (σ31 : MS) => (wp_X6_hour_L49 kx9 F x30 (x7 + 1) σ31)) (fun kj29 => (((¬ v27 = 1) → (((v27 = 2) → (wp_X6_grows x7 σ26 (fun v34 σ33 => (kj29 (x6 + v34) σ33)))) ∧ ((¬ v27 = 2) → (((¬ v27 = 3) → (((¬ v27 = 4) → (kj29 x6 σ26)) ∧ ((v27 = 4) → (vp_in 1 (mLen 0) ∧ (((¬ (σ26 0 (1 : Int32).toNatClampNeg) = 1) → (kj29 x6 σ26)) ∧ (((σ26 0 (1 : Int32).toNatClampNeg) = 1) → (wp_X6_dries x7 σ26 (fun σ38 => (kj29 x6 σ38))))))))) ∧ ((v27 = 3) → (wp_X6_grows x7 σ26 (fun v40 σ39 => (kj29 (x6 + v40) σ39)))))))) ∧ ((v27 = 1) → (wp_X6_of x7 6 σ26 (fun v42 σ41 => (wp_X6_of x7 4 σ41 (fun v44 σ43 => (wp_X6_least 46 (v44 + 4) (fun v45 => (wp_X6_sets x7 4 v45 σ43 (fun σ46 => (jn (fun (x49 : Int32) => (wp_X6_sets x7 6 x49 σ46 (fun σ50 => (kj29 x6 σ50)))) (fun kj48 => (((v42 ≤ 14) → (wp_X6_least 14 (v42 + 2) (fun v51 => (kj48 v51)))) ∧ ((¬ v42 ≤ 14) → (wp_X6_most 14 (v42 - 2) (fun v52 => (kj48 v52))))))))))))))))))))))))
def wp_X6_hour (σ : MS) (Q : Int32 → MS → Prop) : Prop := (vp_in 0 (mLen 0) ∧ (vp_in 0 (mLen 0) ∧ ∀ σ1 : MS, σ1 = mU σ 0 (0 : Int32).toNatClampNeg ((σ 0 (0 : Int32).toNatClampNeg) + 1) → (vp_in 0 (mLen 0) ∧ (jn (fun (x4 : Int32) => (vp_in 6 (mLen 0) ∧ ∀ σ5 : MS, σ5 = mU σ1 0 (6 : Int32).toNatClampNeg x4 → (jn (fun (x10 : Int32) (x11 : Int32) (σ12 : MS) => (vp_in 1 (mLen 0) ∧ (((¬ (σ12 0 (1 : Int32).toNatClampNeg) = 1) → (Q x10 σ12)) ∧ (((σ12 0 (1 : Int32).toNatClampNeg) = 1) → (vp_in 2 (mLen 0) ∧ (vp_in 2 (mLen 0) ∧ ∀ σ14 : MS, σ14 = mU σ12 0 (2 : Int32).toNatClampNeg ((σ12 0 (2 : Int32).toNatClampNeg) + 1) → (wp_X6_malts σ14 (fun v16 σ15 => (jn (fun (x19 : Int32) => (vp_in 1 (mLen 0) ∧ ∀ σ20 : MS, σ20 = mU σ15 0 (1 : Int32).toNatClampNeg x19 → (jn (fun (x23 : Int32) => (vp_in 2 (mLen 0) ∧ ∀ σ24 : MS, σ24 = mU σ20 0 (2 : Int32).toNatClampNeg x23 → (Q (x10 + v16) σ24))) (fun kj22 => (((v16 ≤ 0) → (vp_in 2 (mLen 0) ∧ (kj22 (σ20 0 (2 : Int32).toNatClampNeg)))) ∧ ((¬ v16 ≤ 0) → (kj22 0))))))) (fun kj18 => (((v16 ≤ 0) → (kj18 1)) ∧ ((¬ v16 ≤ 0) → (kj18 0))))))))))))) (fun kx9 => wp_X6_hour_L49 kx9 mF 0 0 σ5)))) (fun kj3 => (((¬ ((σ1 0 (0 : Int32).toNatClampNeg) - (σ1 0 (0 : Int32).toNatClampNeg) / 24 * 24) = 0) → (vp_in 6 (mLen 0) ∧ (kj3 (σ1 0 (6 : Int32).toNatClampNeg)))) ∧ ((((σ1 0 (0 : Int32).toNatClampNeg) - (σ1 0 (0 : Int32).toNatClampNeg) / 24 * 24) = 0) → (vp_in 5 (mLen 0) ∧ (kj3 (σ1 0 (5 : Int32).toNatClampNeg))))))))))
theorem sg_X6_hour : aSig yX6_hour 0 := by decide +kernel
set_option maxHeartbeats 4000000 in
theorem ct_X6_hour (l : Launch) (G : aG) (a : Nat)   (σ : MS) (Q : Int32 → MS → Prop) (hw : wp_X6_hour  σ Q) (h0 : AH) (n0 u0 : Nat) (hV : MV h0 a σ) : CT l yX6_hour (ws_ yX6_hour cX6_hour 5 (some .int)) 4 G [.ref a] h0 n0 u0 0 0 (m_pi Q h0 n0 u0 a) := by
  refine CT.intro [some (.ref a), none, none, none, none] pn_RX6 rfl (Nat.le_of_ble_eq_true rfl) ?_
  intro p e s m args below meth c C hz hu
  have hs : s.heap.size = n0 ∧ slT s.heap = u0 := ⟨hz, hu⟩
  refine a_world (V1 := MW h0 n0 u0 a σ) (MW.start hV) ?_
  unfold wp_X6_hour at hw
  refine a_iconst (pc := 0) C dX6_hour_0 ic_0 ?_
  refine a_istore_1 (pc := 1) C dX6_hour_1 (by decide) rfl ?_
  refine a_aload_0 (pc := 2) C dX6_hour_2 ?_
  refine m_get_z (pc := 3) C q1758 dX6_hour_3 ?_
  refine a_iconst (pc := 6) C dX6_hour_6 ic_0 ?_
  refine a_dup2 (pc := 7) C dX6_hour_7 rfl rfl ?_
  refine m_iald (pc := 8) C (by decide) hw.1 dX6_hour_8 ?_
  have hw := hw.2
  refine a_iconst (pc := 9) C dX6_hour_9 ic_1 ?_
  refine a_iadd (pc := 10) C dX6_hour_10 ?_
  refine m_iast (pc := 11) C (by decide) hw.1 dX6_hour_11 (fun σ1 eσ1 => ?_)
  have hw := hw.2 σ1 eσ1
  refine a_aload_0 (pc := 12) C dX6_hour_12 ?_
  refine m_get_z (pc := 13) C q1758 dX6_hour_13 ?_
  refine a_bipush (pc := 16) C dX6_hour_16 bc_6 ?_
  refine a_aload_0 (pc := 18) C dX6_hour_18 ?_
  refine m_get_z (pc := 19) C q1758 dX6_hour_19 ?_
  refine a_iconst (pc := 22) C dX6_hour_22 ic_0 ?_
  refine m_iald (pc := 23) C (by decide) hw.1 dX6_hour_23 ?_
  have hw := hw.2
  refine a_bipush (pc := 24) C dX6_hour_24 bc_24 ?_
  refine a_irem (pc := 26) C dX6_hour_26 (by decide) ?_
  refine jn_use hw (fun kj3 ekj3 hw => ?_)
  have hkj3 : ∀ (x4 : Int32), kj3 x4 → AW G p l e (aRm 4 0 0) s m args below meth c (a_A h0 n0) 5 (MQ below (a_Qc G (m_pi Q h0 n0 u0 a) (a_A h0 n0)) args s 0 0 (a_A h0 n0)) (MW h0 n0 u0 a σ1) 46 [some (.ref a), some (.int 0), none, none, none] [.int x4, .int 6, .ref (a + 1 + 0)] := by
    intro x4 hw
    rw [ekj3] at hw
    refine m_iast (pc := 46) C (by decide) hw.1 dX6_hour_46 (fun σ5 eσ5 => ?_)
    have hw := hw.2 σ5 eσ5
    refine a_iconst (pc := 47) C dX6_hour_47 ic_0 ?_
    refine a_istore_2 (pc := 48) C dX6_hour_48 (by decide) rfl ?_
    refine jn_use hw (fun kx9 ekx9 hw => ?_)
    have hkx9 : ∀ (x10 : Int32) (x11 : Int32) (σ12 : MS), kx9 x10 x11 σ12 → AW G p l e (aRm 4 0 0) s m args below meth c (a_A h0 n0) 5 (MQ below (a_Qc G (m_pi Q h0 n0 u0 a) (a_A h0 n0)) args s 0 0 (a_A h0 n0)) (MW h0 n0 u0 a σ12) 185 [some (.ref a), some (.int x10), some (.int x11), none, none] [] := by
      intro x10 x11 σ12 hw
      rw [ekx9] at hw
      refine a_aload_0 (pc := 185) C dX6_hour_185 ?_
      refine m_get_z (pc := 186) C q1758 dX6_hour_186 ?_
      refine a_iconst (pc := 189) C dX6_hour_189 ic_1 ?_
      refine m_iald (pc := 190) C (by decide) hw.1 dX6_hour_190 ?_
      have hw := hw.2
      refine a_iconst (pc := 191) C dX6_hour_191 ic_1 ?_
      refine a_icmp_ne (pc := 192) C 249 dX6_hour_192 (by decide) (fun c13 => ?_) (fun c13 => ?_)
      · have hw := hw.1 c13
        refine a_iload_1 (pc := 249) C dX6_hour_249 ?_
        exact a_iret C dX6_hour_250 (fun h n u hV => ⟨⟨(_, _), rfl, hw, hV⟩, m_end hs hV⟩)
      · have hw := hw.2 c13
        refine a_aload_0 (pc := 195) C dX6_hour_195 ?_
        refine m_get_z (pc := 196) C q1758 dX6_hour_196 ?_
        refine a_iconst (pc := 199) C dX6_hour_199 ic_2 ?_
        refine a_dup2 (pc := 200) C dX6_hour_200 rfl rfl ?_
        refine m_iald (pc := 201) C (by decide) hw.1 dX6_hour_201 ?_
        have hw := hw.2
        refine a_iconst (pc := 202) C dX6_hour_202 ic_1 ?_
        refine a_iadd (pc := 203) C dX6_hour_203 ?_
        refine m_iast (pc := 204) C (by decide) hw.1 dX6_hour_204 (fun σ14 eσ14 => ?_)
        have hw := hw.2 σ14 eσ14
        refine a_aload_0 (pc := 205) C dX6_hour_205 ?_
        refine m_callV0i (pc := 206) C hs (fun h n u hV => ct_X6_malts l G a  _ _ hw h n u hV) (by decide) (by decide) rfl (lw_V q1989 q1991 qs58 q77 q1992) sg_X6_malts (Nat.le_of_ble_eq_true rfl) dX6_hour_206 (fun v16 σ15 hw => ?_)
        refine a_istore_2 (pc := 209) C dX6_hour_209 (by decide) rfl ?_
        refine a_aload_0 (pc := 210) C dX6_hour_210 ?_
        refine m_get_z (pc := 211) C q1758 dX6_hour_211 ?_
        refine a_iconst (pc := 214) C dX6_hour_214 ic_1 ?_
        refine a_iload_2 (pc := 215) C dX6_hour_215 ?_
        refine jn_use hw (fun kj18 ekj18 hw => ?_)
        have hkj18 : ∀ (x19 : Int32), kj18 x19 → AW G p l e (aRm 4 0 0) s m args below meth c (a_A h0 n0) 5 (MQ below (a_Qc G (m_pi Q h0 n0 u0 a) (a_A h0 n0)) args s 0 0 (a_A h0 n0)) (MW h0 n0 u0 a σ15) 224 [some (.ref a), some (.int x10), some (.int v16), none, none] [.int x19, .int 1, .ref (a + 1 + 0)] := by
          intro x19 hw
          rw [ekj18] at hw
          refine m_iast (pc := 224) C (by decide) hw.1 dX6_hour_224 (fun σ20 eσ20 => ?_)
          have hw := hw.2 σ20 eσ20
          refine a_aload_0 (pc := 225) C dX6_hour_225 ?_
          refine m_get_z (pc := 226) C q1758 dX6_hour_226 ?_
          refine a_iconst (pc := 229) C dX6_hour_229 ic_2 ?_
          refine a_iload_2 (pc := 230) C dX6_hour_230 ?_
          refine jn_use hw (fun kj22 ekj22 hw => ?_)
          have hkj22 : ∀ (x23 : Int32), kj22 x23 → AW G p l e (aRm 4 0 0) s m args below meth c (a_A h0 n0) 5 (MQ below (a_Qc G (m_pi Q h0 n0 u0 a) (a_A h0 n0)) args s 0 0 (a_A h0 n0)) (MW h0 n0 u0 a σ20) 244 [some (.ref a), some (.int x10), some (.int v16), none, none] [.int x23, .int 2, .ref (a + 1 + 0)] := by
            intro x23 hw
            rw [ekj22] at hw
            refine m_iast (pc := 244) C (by decide) hw.1 dX6_hour_244 (fun σ24 eσ24 => ?_)
            have hw := hw.2 σ24 eσ24
            refine a_iload_1 (pc := 245) C dX6_hour_245 ?_
            refine a_iload_2 (pc := 246) C dX6_hour_246 ?_
            refine a_iadd (pc := 247) C dX6_hour_247 ?_
            refine a_istore_1 (pc := 248) C dX6_hour_248 (by decide) rfl ?_
            refine a_iload_1 (pc := 249) C dX6_hour_249 ?_
            exact a_iret C dX6_hour_250 (fun h n u hV => ⟨⟨(_, _), rfl, hw, hV⟩, m_end hs hV⟩)
          refine a_if_le (pc := 231) C 238 dX6_hour_231 (by decide) (fun c21 => ?_) (fun c21 => ?_)
          · have hw := hw.1 c21
            refine a_aload_0 (pc := 238) C dX6_hour_238 ?_
            refine m_get_z (pc := 239) C q1758 dX6_hour_239 ?_
            refine a_iconst (pc := 242) C dX6_hour_242 ic_2 ?_
            refine m_iald (pc := 243) C (by decide) hw.1 dX6_hour_243 ?_
            have hw := hw.2
            exact hkj22 _ hw
          · have hw := hw.2 c21
            refine a_iconst (pc := 234) C dX6_hour_234 ic_0 ?_
            refine a_goto (pc := 235) C 244 dX6_hour_235 (by decide) ?_
            exact hkj22 _ hw
        refine a_if_le (pc := 216) C 223 dX6_hour_216 (by decide) (fun c17 => ?_) (fun c17 => ?_)
        · have hw := hw.1 c17
          refine a_iconst (pc := 223) C dX6_hour_223 ic_1 ?_
          exact hkj18 _ hw
        · have hw := hw.2 c17
          refine a_iconst (pc := 219) C dX6_hour_219 ic_0 ?_
          refine a_goto (pc := 220) C 224 dX6_hour_220 (by decide) ?_
          exact hkj18 _ hw
    have lp49 : ∀ (F : Nat) (x6 : Int32) (x7 : Int32) (σ8 : MS), wp_X6_hour_L49 kx9 F x6 x7 σ8 → AW G p l e (aRm 4 0 0) s m args below meth c (a_A h0 n0) 5 (MQ below (a_Qc G (m_pi Q h0 n0 u0 a) (a_A h0 n0)) args s 0 0 (a_A h0 n0)) (MW h0 n0 u0 a σ8) 49 [some (.ref a), some (.int x6), some (.int x7), none, none] [] := by
      intro F
      induction F with
      | zero => intro x6 x7 σ8 hw; exact False.elim hw
      | succ F ih =>
        intro x6 x7 σ8 hw
        rw [wp_X6_hour_L49] at hw
        refine a_iload_2 (pc := 49) C dX6_hour_49 ?_
        refine a_aload_0 (pc := 50) C dX6_hour_50 ?_
        refine m_get_z (pc := 51) C q1758 dX6_hour_51 ?_
        refine a_bipush (pc := 54) C dX6_hour_54 bc_7 ?_
        refine m_iald (pc := 56) C (by decide) hw.1 dX6_hour_56 ?_
        have hw := hw.2
        refine a_icmp_ge (pc := 57) C 185 dX6_hour_57 (by decide) (fun c25 => ?_) (fun c25 => ?_)
        · have hw := hw.1 c25
          exact hkx9 _ _ _ hw
        · have hw := hw.2 c25
          refine a_aload_0 (pc := 60) C dX6_hour_60 ?_
          refine a_iload_2 (pc := 61) C dX6_hour_61 ?_
          refine a_iconst (pc := 62) C dX6_hour_62 ic_0 ?_
          refine m_callV2i (pc := 63) C hs (fun h n u hV => ct_X6_of l G a _ _ _ _ hw h n u hV) (by decide) (by decide) rfl (lw_V q1844 q1846 qs35 q77 q1847) sg_X6_of (Nat.le_of_ble_eq_true rfl) dX6_hour_63 (fun v27 σ26 hw => ?_)
          refine a_istore_3 (pc := 66) C dX6_hour_66 (by decide) rfl ?_
          refine a_iload_3 (pc := 67) C dX6_hour_67 ?_
          refine a_iconst (pc := 68) C dX6_hour_68 ic_1 ?_
          refine jn_use hw (fun kj29 ekj29 hw => ?_)
          have hkj29 : ∀ (x30 : Int32) (σ31 : MS), kj29 x30 σ31 → AW G p l e (aRm 4 0 0) s m args below meth c (a_A h0 n0) 5 (MQ below (a_Qc G (m_pi Q h0 n0 u0 a) (a_A h0 n0)) args s 0 0 (a_A h0 n0)) (MW h0 n0 u0 a σ31) 179 [some (.ref a), some (.int x30), some (.int x7), some (.int v27), none] [] := by
            intro x30 σ31 hw
            rw [ekj29] at hw
            refine a_iinc_2 (pc := 179) (v := 1) C dX6_hour_179 (by decide) (by decide) rfl ?_
            refine a_goto (pc := 182) C 49 dX6_hour_182 (by decide) ?_
            exact a_weak (a_le_some (a_le_some (a_le_some (a_le_none (a_le_none a_le_nil))))) (ih _ _ _ hw)
          refine a_icmp_ne (pc := 69) C 138 dX6_hour_69 (by decide) (fun c28 => ?_) (fun c28 => ?_)
          · have hw := hw.1 c28
            refine a_iload_3 (pc := 138) C dX6_hour_138 ?_
            refine a_iconst (pc := 139) C dX6_hour_139 ic_2 ?_
            refine a_icmp_eq (pc := 140) C 148 dX6_hour_140 (by decide) (fun c32 => ?_) (fun c32 => ?_)
            · have hw := hw.1 c32
              refine a_iload_1 (pc := 148) C dX6_hour_148 ?_
              refine a_aload_0 (pc := 149) C dX6_hour_149 ?_
              refine a_iload_2 (pc := 150) C dX6_hour_150 ?_
              refine m_callV1i (pc := 151) C hs (fun h n u hV => ct_X6_grows l G a _ _ _ hw h n u hV) (by decide) (by decide) rfl (lw_V q1973 q1975 qs54 q77 q1976) sg_X6_grows (Nat.le_of_ble_eq_true rfl) dX6_hour_151 (fun v34 σ33 hw => ?_)
              refine a_iadd (pc := 154) C dX6_hour_154 ?_
              refine a_istore_1 (pc := 155) C dX6_hour_155 (by decide) rfl ?_
              refine a_goto (pc := 156) C 179 dX6_hour_156 (by decide) ?_
              exact hkj29 _ _ hw
            · have hw := hw.2 c32
              refine a_iload_3 (pc := 143) C dX6_hour_143 ?_
              refine a_iconst (pc := 144) C dX6_hour_144 ic_3 ?_
              refine a_icmp_ne (pc := 145) C 159 dX6_hour_145 (by decide) (fun c35 => ?_) (fun c35 => ?_)
              · have hw := hw.1 c35
                refine a_iload_3 (pc := 159) C dX6_hour_159 ?_
                refine a_iconst (pc := 160) C dX6_hour_160 ic_4 ?_
                refine a_icmp_ne (pc := 161) C 179 dX6_hour_161 (by decide) (fun c36 => ?_) (fun c36 => ?_)
                · have hw := hw.1 c36
                  exact hkj29 _ _ hw
                · have hw := hw.2 c36
                  refine a_aload_0 (pc := 164) C dX6_hour_164 ?_
                  refine m_get_z (pc := 165) C q1758 dX6_hour_165 ?_
                  refine a_iconst (pc := 168) C dX6_hour_168 ic_1 ?_
                  refine m_iald (pc := 169) C (by decide) hw.1 dX6_hour_169 ?_
                  have hw := hw.2
                  refine a_iconst (pc := 170) C dX6_hour_170 ic_1 ?_
                  refine a_icmp_ne (pc := 171) C 179 dX6_hour_171 (by decide) (fun c37 => ?_) (fun c37 => ?_)
                  · have hw := hw.1 c37
                    exact hkj29 _ _ hw
                  · have hw := hw.2 c37
                    refine a_aload_0 (pc := 174) C dX6_hour_174 ?_
                    refine a_iload_2 (pc := 175) C dX6_hour_175 ?_
                    refine m_callV1v (pc := 176) C hs (fun h n u hV => ct_X6_dries l G a _ _ _ hw h n u hV) (by decide) (by decide) rfl (lw_V q1981 q1983 qs56 q77 q1984) sg_X6_dries (Nat.le_of_ble_eq_true rfl) dX6_hour_176 (fun σ38 hw => ?_)
                    exact hkj29 _ _ hw
              · have hw := hw.2 c35
                refine a_iload_1 (pc := 148) C dX6_hour_148 ?_
                refine a_aload_0 (pc := 149) C dX6_hour_149 ?_
                refine a_iload_2 (pc := 150) C dX6_hour_150 ?_
                refine m_callV1i (pc := 151) C hs (fun h n u hV => ct_X6_grows l G a _ _ _ hw h n u hV) (by decide) (by decide) rfl (lw_V q1973 q1975 qs54 q77 q1976) sg_X6_grows (Nat.le_of_ble_eq_true rfl) dX6_hour_151 (fun v40 σ39 hw => ?_)
                refine a_iadd (pc := 154) C dX6_hour_154 ?_
                refine a_istore_1 (pc := 155) C dX6_hour_155 (by decide) rfl ?_
                refine a_goto (pc := 156) C 179 dX6_hour_156 (by decide) ?_
                exact hkj29 _ _ hw
          · have hw := hw.2 c28
            refine a_aload_0 (pc := 72) C dX6_hour_72 ?_
            refine a_iload_2 (pc := 73) C dX6_hour_73 ?_
            refine a_bipush (pc := 74) C dX6_hour_74 bc_6 ?_
            refine m_callV2i (pc := 76) C hs (fun h n u hV => ct_X6_of l G a _ _ _ _ hw h n u hV) (by decide) (by decide) rfl (lw_V q1844 q1846 qs35 q77 q1847) sg_X6_of (Nat.le_of_ble_eq_true rfl) dX6_hour_76 (fun v42 σ41 hw => ?_)
            refine a_istore_4 (pc := 79) C dX6_hour_79 (by decide) rfl ?_
            refine a_aload_0 (pc := 81) C dX6_hour_81 ?_
            refine a_iload_2 (pc := 82) C dX6_hour_82 ?_
            refine a_iconst (pc := 83) C dX6_hour_83 ic_4 ?_
            refine a_bipush (pc := 84) C dX6_hour_84 bc_46 ?_
            refine a_aload_0 (pc := 86) C dX6_hour_86 ?_
            refine a_iload_2 (pc := 87) C dX6_hour_87 ?_
            refine a_iconst (pc := 88) C dX6_hour_88 ic_4 ?_
            refine m_callV2i (pc := 89) C hs (fun h n u hV => ct_X6_of l G a _ _ _ _ hw h n u hV) (by decide) (by decide) rfl (lw_V q1844 q1846 qs35 q77 q1847) sg_X6_of (Nat.le_of_ble_eq_true rfl) dX6_hour_89 (fun v44 σ43 hw => ?_)
            refine a_iconst (pc := 92) C dX6_hour_92 ic_4 ?_
            refine a_iadd (pc := 93) C dX6_hour_93 ?_
            refine m_callS2p (pc := 94) C hs (fun h n u => ct_X6_least l G _ _ _ hw h n u) (by decide) (by decide) (lw_S q1864 q1865 q77 q1866) sg_X6_least (Nat.le_of_ble_eq_true rfl) dX6_hour_94 (fun v45 hw => ?_)
            refine m_callV3v (pc := 97) C hs (fun h n u hV => ct_X6_sets l G a _ _ _ _ _ hw h n u hV) (by decide) (by decide) rfl (lw_V q1828 q1830 qs32 q77 q1831) sg_X6_sets (Nat.le_of_ble_eq_true rfl) dX6_hour_97 (fun σ46 hw => ?_)
            refine a_aload_0 (pc := 100) C dX6_hour_100 ?_
            refine a_iload_2 (pc := 101) C dX6_hour_101 ?_
            refine a_bipush (pc := 102) C dX6_hour_102 bc_6 ?_
            refine a_iload_4 (pc := 104) C dX6_hour_104 ?_
            refine a_bipush (pc := 106) C dX6_hour_106 bc_14 ?_
            refine jn_use hw (fun kj48 ekj48 hw => ?_)
            have hkj48 : ∀ (x49 : Int32), kj48 x49 → AW G p l e (aRm 4 0 0) s m args below meth c (a_A h0 n0) 5 (MQ below (a_Qc G (m_pi Q h0 n0 u0 a) (a_A h0 n0)) args s 0 0 (a_A h0 n0)) (MW h0 n0 u0 a σ46) 132 [some (.ref a), some (.int x6), some (.int x7), some (.int v27), some (.int v42)] [.int x49, .int 6, .int x7, .ref a] := by
              intro x49 hw
              rw [ekj48] at hw
              refine m_callV3v (pc := 132) C hs (fun h n u hV => ct_X6_sets l G a _ _ _ _ _ hw h n u hV) (by decide) (by decide) rfl (lw_V q1828 q1830 qs32 q77 q1831) sg_X6_sets (Nat.le_of_ble_eq_true rfl) dX6_hour_132 (fun σ50 hw => ?_)
              refine a_goto (pc := 135) C 179 dX6_hour_135 (by decide) ?_
              exact a_weak (a_le_some (a_le_some (a_le_some (a_le_some (a_le_none a_le_nil))))) (hkj29 _ _ hw)
            refine a_icmp_le (pc := 108) C 123 dX6_hour_108 (by decide) (fun c47 => ?_) (fun c47 => ?_)
            · have hw := hw.1 c47
              refine a_bipush (pc := 123) C dX6_hour_123 bc_14 ?_
              refine a_iload_4 (pc := 125) C dX6_hour_125 ?_
              refine a_iconst (pc := 127) C dX6_hour_127 ic_2 ?_
              refine a_iadd (pc := 128) C dX6_hour_128 ?_
              refine m_callS2p (pc := 129) C hs (fun h n u => ct_X6_least l G _ _ _ hw h n u) (by decide) (by decide) (lw_S q1864 q1865 q77 q1866) sg_X6_least (Nat.le_of_ble_eq_true rfl) dX6_hour_129 (fun v51 hw => ?_)
              exact hkj48 _ hw
            · have hw := hw.2 c47
              refine a_bipush (pc := 111) C dX6_hour_111 bc_14 ?_
              refine a_iload_4 (pc := 113) C dX6_hour_113 ?_
              refine a_iconst (pc := 115) C dX6_hour_115 ic_2 ?_
              refine a_isub (pc := 116) C dX6_hour_116 ?_
              refine m_callS2p (pc := 117) C hs (fun h n u => ct_X6_most l G _ _ _ hw h n u) (by decide) (by decide) (lw_S q1934 q1935 q77 q1936) sg_X6_most (Nat.le_of_ble_eq_true rfl) dX6_hour_117 (fun v52 hw => ?_)
              refine a_goto (pc := 120) C 132 dX6_hour_120 (by decide) ?_
              exact hkj48 _ hw
    exact lp49 mF _ _ _ hw
  refine a_if_ne (pc := 27) C 39 dX6_hour_27 (by decide) (fun c2 => ?_) (fun c2 => ?_)
  · have hw := hw.1 c2
    refine a_aload_0 (pc := 39) C dX6_hour_39 ?_
    refine m_get_z (pc := 40) C q1758 dX6_hour_40 ?_
    refine a_bipush (pc := 43) C dX6_hour_43 bc_6 ?_
    refine m_iald (pc := 45) C (by decide) hw.1 dX6_hour_45 ?_
    have hw := hw.2
    exact hkj3 _ hw
  · have hw := hw.2 c2
    refine a_aload_0 (pc := 30) C dX6_hour_30 ?_
    refine m_get_z (pc := 31) C q1758 dX6_hour_31 ?_
    refine a_iconst (pc := 34) C dX6_hour_34 ic_5 ?_
    refine m_iald (pc := 35) C (by decide) hw.1 dX6_hour_35 ?_
    have hw := hw.2
    refine a_goto (pc := 36) C 46 dX6_hour_36 (by decide) ?_
    exact hkj3 _ hw
def wp_X6_hours_L4 (kx4 : Int32 → Int32 → MS → Prop) (p1 : Int32) : Nat → Int32 → Int32 → MS → Prop
  | 0, _, _, _ => False
  | F + 1, x1, x2, σ3 => (((p1 ≤ x2) → (kx4 x1 x2 σ3)) ∧ ((¬ p1 ≤ x2) → (wp_X6_hour σ3 (fun v10 σ9 => (wp_X6_hours_L4 kx4 p1 F (x1 + v10) (x2 + 1) σ9)))))
def wp_X6_hours (p1 : Int32) (σ : MS) (Q : Int32 → MS → Prop) : Prop := (jn (fun (x5 : Int32) (x6 : Int32) (σ7 : MS) => (Q x5 σ7)) (fun kx4 => wp_X6_hours_L4 kx4 p1 mF 0 0 σ))
theorem sg_X6_hours : aSig yX6_hours 1 := by decide +kernel
set_option maxHeartbeats 4000000 in
theorem ct_X6_hours (l : Launch) (G : aG) (a : Nat) (p1 : Int32)  (σ : MS) (Q : Int32 → MS → Prop) (hw : wp_X6_hours p1 σ Q) (h0 : AH) (n0 u0 : Nat) (hV : MV h0 a σ) : CT l yX6_hours (ws_ yX6_hours cX6_hours 4 (some .int)) 5 G [.ref a, .int p1] h0 n0 u0 0 0 (m_pi Q h0 n0 u0 a) := by
  refine CT.intro [some (.ref a), some (.int p1), none, none] pn_RX6 rfl (Nat.le_of_ble_eq_true rfl) ?_
  intro p e s m args below meth c C hz hu
  have hs : s.heap.size = n0 ∧ slT s.heap = u0 := ⟨hz, hu⟩
  refine a_world (V1 := MW h0 n0 u0 a σ) (MW.start hV) ?_
  unfold wp_X6_hours at hw
  refine a_iconst (pc := 0) C dX6_hours_0 ic_0 ?_
  refine a_istore_2 (pc := 1) C dX6_hours_1 (by decide) rfl ?_
  refine a_iconst (pc := 2) C dX6_hours_2 ic_0 ?_
  refine a_istore_3 (pc := 3) C dX6_hours_3 (by decide) rfl ?_
  refine jn_use hw (fun kx4 ekx4 hw => ?_)
  have hkx4 : ∀ (x5 : Int32) (x6 : Int32) (σ7 : MS), kx4 x5 x6 σ7 → AW G p l e (aRm 5 0 0) s m args below meth c (a_A h0 n0) 4 (MQ below (a_Qc G (m_pi Q h0 n0 u0 a) (a_A h0 n0)) args s 0 0 (a_A h0 n0)) (MW h0 n0 u0 a σ7) 22 [some (.ref a), some (.int p1), some (.int x5), some (.int x6)] [] := by
    intro x5 x6 σ7 hw
    rw [ekx4] at hw
    refine a_iload_2 (pc := 22) C dX6_hours_22 ?_
    exact a_iret C dX6_hours_23 (fun h n u hV => ⟨⟨(_, _), rfl, hw, hV⟩, m_end hs hV⟩)
  have lp4 : ∀ (F : Nat) (x1 : Int32) (x2 : Int32) (σ3 : MS), wp_X6_hours_L4 kx4 p1 F x1 x2 σ3 → AW G p l e (aRm 5 0 0) s m args below meth c (a_A h0 n0) 4 (MQ below (a_Qc G (m_pi Q h0 n0 u0 a) (a_A h0 n0)) args s 0 0 (a_A h0 n0)) (MW h0 n0 u0 a σ3) 4 [some (.ref a), some (.int p1), some (.int x1), some (.int x2)] [] := by
    intro F
    induction F with
    | zero => intro x1 x2 σ3 hw; exact False.elim hw
    | succ F ih =>
      intro x1 x2 σ3 hw
      rw [wp_X6_hours_L4] at hw
      refine a_iload_3 (pc := 4) C dX6_hours_4 ?_
      refine a_iload_1 (pc := 5) C dX6_hours_5 ?_
      refine a_icmp_ge (pc := 6) C 22 dX6_hours_6 (by decide) (fun c8 => ?_) (fun c8 => ?_)
      · have hw := hw.1 c8
        exact hkx4 _ _ _ hw
      · have hw := hw.2 c8
        refine a_iload_2 (pc := 9) C dX6_hours_9 ?_
        refine a_aload_0 (pc := 10) C dX6_hours_10 ?_
        refine m_callV0i (pc := 11) C hs (fun h n u hV => ct_X6_hour l G a  _ _ hw h n u hV) (by decide) (by decide) rfl (lw_V q1969 q1971 qs53 q77 q1972) sg_X6_hour (Nat.le_of_ble_eq_true rfl) dX6_hours_11 (fun v10 σ9 hw => ?_)
        refine a_iadd (pc := 14) C dX6_hours_14 ?_
        refine a_istore_2 (pc := 15) C dX6_hours_15 (by decide) rfl ?_
        refine a_iinc_3 (pc := 16) (v := 1) C dX6_hours_16 (by decide) (by decide) rfl ?_
        refine a_goto (pc := 19) C 4 dX6_hours_19 (by decide) ?_
        exact ih _ _ _ hw
  exact lp4 mF _ _ _ hw
def wp_X6_pass (p1 : Int32) (σ : MS) (Q : Int32 → MS → Prop) : Prop := (wp_X6_in p1 1 48 (fun v1 => (wp_X6_goes v1 1 σ (fun v3 σ2 => (((¬ v3 = 0) → (wp_X6_record σ2 (fun σ5 => (wp_X6_hours p1 σ5 (fun v7 σ6 => (Q v7 σ6)))))) ∧ ((v3 = 0) → (Q 0 σ2)))))))
theorem sg_X6_pass : aSig yX6_pass 1 := by decide +kernel
set_option maxHeartbeats 4000000 in
theorem ct_X6_pass (l : Launch) (G : aG) (a : Nat) (p1 : Int32)  (σ : MS) (Q : Int32 → MS → Prop) (hw : wp_X6_pass p1 σ Q) (h0 : AH) (n0 u0 : Nat) (hV : MV h0 a σ) : CT l yX6_pass (ws_ yX6_pass cX6_pass 2 (some .int)) 6 G [.ref a, .int p1] h0 n0 u0 0 0 (m_pi Q h0 n0 u0 a) := by
  refine CT.intro [some (.ref a), some (.int p1)] pn_RX6 rfl (Nat.le_of_ble_eq_true rfl) ?_
  intro p e s m args below meth c C hz hu
  have hs : s.heap.size = n0 ∧ slT s.heap = u0 := ⟨hz, hu⟩
  refine a_world (V1 := MW h0 n0 u0 a σ) (MW.start hV) ?_
  unfold wp_X6_pass at hw
  refine a_aload_0 (pc := 0) C dX6_pass_0 ?_
  refine a_iload_1 (pc := 1) C dX6_pass_1 ?_
  refine a_iconst (pc := 2) C dX6_pass_2 ic_1 ?_
  refine a_bipush (pc := 3) C dX6_pass_3 bc_48 ?_
  refine m_callS3p (pc := 5) C hs (fun h n u => ct_X6_in l G _ _ _ _ hw h n u) (by decide) (by decide) (lw_S q1821 q1822 q77 q1823) sg_X6_in (Nat.le_of_ble_eq_true rfl) dX6_pass_5 (fun v1 hw => ?_)
  refine a_iconst (pc := 8) C dX6_pass_8 ic_1 ?_
  refine m_callV2i (pc := 9) C hs (fun h n u hV => ct_X6_goes l G a _ _ _ _ hw h n u hV) (by decide) (by decide) rfl (lw_V q1794 q1796 qs29 q77 q1797) sg_X6_goes (Nat.le_of_ble_eq_true rfl) dX6_pass_9 (fun v3 σ2 hw => ?_)
  refine a_if_ne (pc := 12) C 17 dX6_pass_12 (by decide) (fun c4 => ?_) (fun c4 => ?_)
  · have hw := hw.1 c4
    refine a_aload_0 (pc := 17) C dX6_pass_17 ?_
    refine m_callV0v (pc := 18) C hs (fun h n u hV => ct_X6_record l G a  _ _ hw h n u hV) (by decide) (by decide) rfl (lw_V q1813 q1815 qs30 q77 q1816) sg_X6_record (Nat.le_of_ble_eq_true rfl) dX6_pass_18 (fun σ5 hw => ?_)
    refine a_aload_0 (pc := 21) C dX6_pass_21 ?_
    refine a_iload_1 (pc := 22) C dX6_pass_22 ?_
    refine m_callV1i (pc := 23) C hs (fun h n u hV => ct_X6_hours l G a _ _ _ hw h n u hV) (by decide) (by decide) rfl (lw_V q1965 q1967 qs52 q77 q1968) sg_X6_hours (Nat.le_of_ble_eq_true rfl) dX6_pass_23 (fun v7 σ6 hw => ?_)
    exact a_iret C dX6_pass_26 (fun h n u hV => ⟨⟨(_, _), rfl, hw, hV⟩, m_end hs hV⟩)
  · have hw := hw.2 c4
    refine a_iconst (pc := 15) C dX6_pass_15 ic_0 ?_
    exact a_iret C dX6_pass_16 (fun h n u hV => ⟨⟨(_, _), rfl, hw, hV⟩, m_end hs hV⟩)
def wp_X6_append (p1 : Int32) (σ : MS) (Q : Int32 → MS → Prop) : Prop := (wp_X6_in p1 32 126 (fun v1 => (jn (fun (x4 : Int32) => (wp_X6_goes v1 x4 σ (fun v6 σ5 => (((¬ v6 = 0) → (vp_in (σ5 5 2) (mLen 4) ∧ ∀ σ8 : MS, σ8 = mU σ5 4 (σ5 5 2).toNatClampNeg p1 → (∀ σ9 : MS, σ9 = mU σ8 5 2 ((σ8 5 2) + 1) → (Q (σ9 5 2) σ9)))) ∧ ((v6 = 0) → (Q 0 σ5)))))) (fun kj3 => (((60 ≤ (σ 5 2)) → (kj3 0)) ∧ ((¬ 60 ≤ (σ 5 2)) → (kj3 1)))))))
theorem sg_X6_append : aSig yX6_append 1 := by decide +kernel
set_option maxHeartbeats 4000000 in
theorem ct_X6_append (l : Launch) (G : aG) (a : Nat) (p1 : Int32)  (σ : MS) (Q : Int32 → MS → Prop) (hw : wp_X6_append p1 σ Q) (h0 : AH) (n0 u0 : Nat) (hV : MV h0 a σ) : CT l yX6_append (ws_ yX6_append cX6_append 2 (some .int)) 2 G [.ref a, .int p1] h0 n0 u0 0 0 (m_pi Q h0 n0 u0 a) := by
  refine CT.intro [some (.ref a), some (.int p1)] pn_RX6 rfl (Nat.le_of_ble_eq_true rfl) ?_
  intro p e s m args below meth c C hz hu
  have hs : s.heap.size = n0 ∧ slT s.heap = u0 := ⟨hz, hu⟩
  refine a_world (V1 := MW h0 n0 u0 a σ) (MW.start hV) ?_
  unfold wp_X6_append at hw
  refine a_aload_0 (pc := 0) C dX6_append_0 ?_
  refine a_iload_1 (pc := 1) C dX6_append_1 ?_
  refine a_bipush (pc := 2) C dX6_append_2 bc_32 ?_
  refine a_bipush (pc := 4) C dX6_append_4 bc_126 ?_
  refine m_callS3p (pc := 6) C hs (fun h n u => ct_X6_in l G _ _ _ _ hw h n u) (by decide) (by decide) (lw_S q1821 q1822 q77 q1823) sg_X6_in (Nat.le_of_ble_eq_true rfl) dX6_append_6 (fun v1 hw => ?_)
  refine a_aload_0 (pc := 9) C dX6_append_9 ?_
  refine m_get_length (pc := 10) C q1765 dX6_append_10 ?_
  refine a_bipush (pc := 13) C dX6_append_13 bc_60 ?_
  refine jn_use hw (fun kj3 ekj3 hw => ?_)
  have hkj3 : ∀ (x4 : Int32), kj3 x4 → AW G p l e (aRm 2 0 0) s m args below meth c (a_A h0 n0) 2 (MQ below (a_Qc G (m_pi Q h0 n0 u0 a) (a_A h0 n0)) args s 0 0 (a_A h0 n0)) (MW h0 n0 u0 a σ) 23 [some (.ref a), some (.int p1)] [.int x4, .int v1, .ref a] := by
    intro x4 hw
    rw [ekj3] at hw
    refine m_callV2i (pc := 23) C hs (fun h n u hV => ct_X6_goes l G a _ _ _ _ hw h n u hV) (by decide) (by decide) rfl (lw_V q1794 q1796 qs29 q77 q1797) sg_X6_goes (Nat.le_of_ble_eq_true rfl) dX6_append_23 (fun v6 σ5 hw => ?_)
    refine a_if_ne (pc := 26) C 31 dX6_append_26 (by decide) (fun c7 => ?_) (fun c7 => ?_)
    · have hw := hw.1 c7
      refine a_aload_0 (pc := 31) C dX6_append_31 ?_
      refine m_get_buffer (pc := 32) C q1764 dX6_append_32 ?_
      refine a_aload_0 (pc := 35) C dX6_append_35 ?_
      refine m_get_length (pc := 36) C q1765 dX6_append_36 ?_
      refine a_iload_1 (pc := 39) C dX6_append_39 ?_
      refine m_iast (pc := 40) C (by decide) hw.1 dX6_append_40 (fun σ8 eσ8 => ?_)
      have hw := hw.2 σ8 eσ8
      refine a_aload_0 (pc := 41) C dX6_append_41 ?_
      refine a_dup (pc := 42) C dX6_append_42 rfl ?_
      refine m_get_length (pc := 43) C q1765 dX6_append_43 ?_
      refine a_iconst (pc := 46) C dX6_append_46 ic_1 ?_
      refine a_iadd (pc := 47) C dX6_append_47 ?_
      refine m_put_length (pc := 48) C q1765 dX6_append_48 (fun σ9 eσ9 => ?_)
      have hw := hw σ9 eσ9
      refine a_aload_0 (pc := 51) C dX6_append_51 ?_
      refine m_get_length (pc := 52) C q1765 dX6_append_52 ?_
      exact a_iret C dX6_append_55 (fun h n u hV => ⟨⟨(_, _), rfl, hw, hV⟩, m_end hs hV⟩)
    · have hw := hw.2 c7
      refine a_iconst (pc := 29) C dX6_append_29 ic_0 ?_
      exact a_iret C dX6_append_30 (fun h n u hV => ⟨⟨(_, _), rfl, hw, hV⟩, m_end hs hV⟩)
  refine a_icmp_ge (pc := 15) C 22 dX6_append_15 (by decide) (fun c2 => ?_) (fun c2 => ?_)
  · have hw := hw.1 c2
    refine a_iconst (pc := 22) C dX6_append_22 ic_0 ?_
    exact hkj3 _ hw
  · have hw := hw.2 c2
    refine a_iconst (pc := 18) C dX6_append_18 ic_1 ?_
    refine a_goto (pc := 19) C 23 dX6_append_19 (by decide) ?_
    exact hkj3 _ hw
def wp_X6_clearText (σ : MS) (Q : Int32 → MS → Prop) : Prop := (∀ σ1 : MS, σ1 = mU σ 5 3 0 → (∀ σ2 : MS, σ2 = mU σ1 5 2 0 → (Q (σ1 5 2) σ2)))
theorem sg_X6_clearText : aSig yX6_clearText 0 := by decide +kernel
set_option maxHeartbeats 4000000 in
theorem ct_X6_clearText (l : Launch) (G : aG) (a : Nat)   (σ : MS) (Q : Int32 → MS → Prop) (hw : wp_X6_clearText  σ Q) (h0 : AH) (n0 u0 : Nat) (hV : MV h0 a σ) : CT l yX6_clearText (ws_ yX6_clearText cX6_clearText 2 (some .int)) 1 G [.ref a] h0 n0 u0 0 0 (m_pi Q h0 n0 u0 a) := by
  refine CT.intro [some (.ref a), none] pn_RX6 rfl (Nat.le_of_ble_eq_true rfl) ?_
  intro p e s m args below meth c C hz hu
  have hs : s.heap.size = n0 ∧ slT s.heap = u0 := ⟨hz, hu⟩
  refine a_world (V1 := MW h0 n0 u0 a σ) (MW.start hV) ?_
  unfold wp_X6_clearText at hw
  refine a_aload_0 (pc := 0) C dX6_clearText_0 ?_
  refine a_iconst (pc := 1) C dX6_clearText_1 ic_0 ?_
  refine m_put_thrown (pc := 2) C q1766 dX6_clearText_2 (fun σ1 eσ1 => ?_)
  have hw := hw σ1 eσ1
  refine a_aload_0 (pc := 5) C dX6_clearText_5 ?_
  refine m_get_length (pc := 6) C q1765 dX6_clearText_6 ?_
  refine a_istore_1 (pc := 9) C dX6_clearText_9 (by decide) rfl ?_
  refine a_aload_0 (pc := 10) C dX6_clearText_10 ?_
  refine a_iconst (pc := 11) C dX6_clearText_11 ic_0 ?_
  refine m_put_length (pc := 12) C q1765 dX6_clearText_12 (fun σ2 eσ2 => ?_)
  have hw := hw σ2 eσ2
  refine a_iload_1 (pc := 15) C dX6_clearText_15 ?_
  exact a_iret C dX6_clearText_16 (fun h n u hV => ⟨⟨(_, _), rfl, hw, hV⟩, m_end hs hV⟩)
def wp_X6_isNumber (p1 : Int32) (Q : Int32 → Prop) : Prop := (wp_X6_in p1 1 4 (fun v1 => ((v1 = 0 ∨ v1 = 1) ∧ (Q v1))))
theorem sg_X6_isNumber : aSig yX6_isNumber 1 := by decide +kernel
set_option maxHeartbeats 4000000 in
theorem ct_X6_isNumber (l : Launch) (G : aG) (p1 : Int32)  (Q : Int32 → Prop) (hw : wp_X6_isNumber p1 Q) (h0 : AH) (n0 u0 : Nat) : CT l yX6_isNumber (ws_ yX6_isNumber cX6_isNumber 1 (some .boolean)) 2 G [.int p1] h0 n0 u0 0 0 (s_pi Q h0 n0 u0) := by
  refine CT.intro [some (.int p1)] pn_RX6 rfl (Nat.le_of_ble_eq_true rfl) ?_
  intro p e s m args below meth c C hz hu
  have hs : s.heap.size = n0 ∧ slT s.heap = u0 := ⟨hz, hu⟩
  unfold wp_X6_isNumber at hw
  refine a_iload_0 (pc := 0) C dX6_isNumber_0 ?_
  refine a_iconst (pc := 1) C dX6_isNumber_1 ic_1 ?_
  refine a_iconst (pc := 2) C dX6_isNumber_2 ic_4 ?_
  refine s_callS3p (pc := 3) C hs (fun h n u => ct_X6_in l G _ _ _ _ hw h n u) (by decide) (by decide) (lw_S q1821 q1822 q77 q1823) sg_X6_in (Nat.le_of_ble_eq_true rfl) dX6_isNumber_3 (fun v1 hw => ?_)
  have hz := hw.1
  have hw := hw.2
  exact a_zret (narrow_bool hz) C dX6_isNumber_6 (fun h n u hV => ⟨⟨_, rfl, hw, hV⟩, s_end hs hV⟩)
def wp_X6_isDigit (p1 : Int32) (Q : Int32 → Prop) : Prop := (wp_X6_in p1 48 57 (fun v1 => ((v1 = 0 ∨ v1 = 1) ∧ (Q v1))))
theorem sg_X6_isDigit : aSig yX6_isDigit 1 := by decide +kernel
set_option maxHeartbeats 4000000 in
theorem ct_X6_isDigit (l : Launch) (G : aG) (p1 : Int32)  (Q : Int32 → Prop) (hw : wp_X6_isDigit p1 Q) (h0 : AH) (n0 u0 : Nat) : CT l yX6_isDigit (ws_ yX6_isDigit cX6_isDigit 1 (some .boolean)) 2 G [.int p1] h0 n0 u0 0 0 (s_pi Q h0 n0 u0) := by
  refine CT.intro [some (.int p1)] pn_RX6 rfl (Nat.le_of_ble_eq_true rfl) ?_
  intro p e s m args below meth c C hz hu
  have hs : s.heap.size = n0 ∧ slT s.heap = u0 := ⟨hz, hu⟩
  unfold wp_X6_isDigit at hw
  refine a_iload_0 (pc := 0) C dX6_isDigit_0 ?_
  refine a_bipush (pc := 1) C dX6_isDigit_1 bc_48 ?_
  refine a_bipush (pc := 3) C dX6_isDigit_3 bc_57 ?_
  refine s_callS3p (pc := 5) C hs (fun h n u => ct_X6_in l G _ _ _ _ hw h n u) (by decide) (by decide) (lw_S q1821 q1822 q77 q1823) sg_X6_in (Nat.le_of_ble_eq_true rfl) dX6_isDigit_5 (fun v1 hw => ?_)
  have hz := hw.1
  have hw := hw.2
  exact a_zret (narrow_bool hz) C dX6_isDigit_8 (fun h n u hV => ⟨⟨_, rfl, hw, hV⟩, s_end hs hV⟩)
def wp_X6_canGo (p1 : Int32) (p2 : Int32) (p3 : Int32) (Q : Int32 → Prop) : Prop := (((¬ p2 = ((-1))) → (((¬ p1 = 1) → (((p2 ≤ 0) → (Q 0)) ∧ ((¬ p2 ≤ 0) → (jn (fun (x6 : Int32) => (((x6 < ((10 * p2) + p3)) → (Q 0)) ∧ ((¬ x6 < ((10 * p2) + p3)) → (Q 1)))) (fun kj5 => (((¬ p1 = 4) → (kj5 11)) ∧ ((p1 = 4) → (kj5 48)))))))) ∧ ((p1 = 1) → (((100 ≤ p2) → (Q 0)) ∧ ((¬ 100 ≤ p2) → (jn (fun (x11 : Int32) => (((x11 < ((10 * p2) + p3)) → (Q 0)) ∧ ((¬ x11 < ((10 * p2) + p3)) → (Q 1)))) (fun kj10 => (((10 ≤ p2) → (kj10 900)) ∧ ((¬ 10 ≤ p2) → (kj10 90)))))))))) ∧ ((p2 = ((-1))) → (((0 < p3) → (Q 1)) ∧ ((¬ 0 < p3) → (((p1 = 2) → (Q 1)) ∧ ((¬ p1 = 2) → (((¬ p1 = 3) → (Q 0)) ∧ ((p1 = 3) → (Q 1)))))))))
theorem sg_X6_canGo : aSig yX6_canGo 3 := by decide +kernel
set_option maxHeartbeats 4000000 in
theorem ct_X6_canGo (l : Launch) (G : aG) (p1 : Int32) (p2 : Int32) (p3 : Int32)  (Q : Int32 → Prop) (hw : wp_X6_canGo p1 p2 p3 Q) (h0 : AH) (n0 u0 : Nat) : CT l yX6_canGo (ws_ yX6_canGo cX6_canGo 4 (some .boolean)) 1 G [.int p1, .int p2, .int p3] h0 n0 u0 0 0 (s_pi Q h0 n0 u0) := by
  refine CT.intro [some (.int p1), some (.int p2), some (.int p3), none] pn_RX6 rfl (Nat.le_of_ble_eq_true rfl) ?_
  intro p e s m args below meth c C hz hu
  have hs : s.heap.size = n0 ∧ slT s.heap = u0 := ⟨hz, hu⟩
  unfold wp_X6_canGo at hw
  refine a_iload_1 (pc := 0) C dX6_canGo_0 ?_
  refine a_iconst (pc := 1) C dX6_canGo_1 ic_m1 ?_
  refine a_icmp_ne (pc := 2) C 25 dX6_canGo_2 (by decide) (fun c1 => ?_) (fun c1 => ?_)
  · have hw := hw.1 c1
    refine a_bipush (pc := 25) C dX6_canGo_25 bc_10 ?_
    refine a_iload_1 (pc := 27) C dX6_canGo_27 ?_
    refine a_imul (pc := 28) C dX6_canGo_28 ?_
    refine a_iload_2 (pc := 29) C dX6_canGo_29 ?_
    refine a_iadd (pc := 30) C dX6_canGo_30 ?_
    refine a_istore_3 (pc := 31) C dX6_canGo_31 (by decide) rfl ?_
    refine a_iload_0 (pc := 32) C dX6_canGo_32 ?_
    refine a_iconst (pc := 33) C dX6_canGo_33 ic_1 ?_
    refine a_icmp_ne (pc := 34) C 69 dX6_canGo_34 (by decide) (fun c2 => ?_) (fun c2 => ?_)
    · have hw := hw.1 c2
      refine a_iload_1 (pc := 69) C dX6_canGo_69 ?_
      refine a_if_le (pc := 70) C 93 dX6_canGo_70 (by decide) (fun c3 => ?_) (fun c3 => ?_)
      · have hw := hw.1 c3
        refine a_iconst (pc := 93) C dX6_canGo_93 ic_0 ?_
        exact a_zret rfl C dX6_canGo_94 (fun h n u hV => ⟨⟨_, rfl, hw, hV⟩, s_end hs hV⟩)
      · have hw := hw.2 c3
        refine a_iload_3 (pc := 73) C dX6_canGo_73 ?_
        refine a_iload_0 (pc := 74) C dX6_canGo_74 ?_
        refine a_iconst (pc := 75) C dX6_canGo_75 ic_4 ?_
        refine jn_use hw (fun kj5 ekj5 hw => ?_)
        have hkj5 : ∀ (x6 : Int32), kj5 x6 → AW G p l e (aRm 1 0 0) s m args below meth c (a_A h0 n0) 4 (MQ below (a_Qc G (s_pi Q h0 n0 u0) (a_A h0 n0)) args s 0 0 (a_A h0 n0)) (aIs h0 n0 u0) 86 [some (.int p1), some (.int p2), some (.int p3), some (.int ((10 * p2) + p3))] [.int x6, .int ((10 * p2) + p3)] := by
          intro x6 hw
          rw [ekj5] at hw
          refine a_icmp_gt (pc := 86) C 93 dX6_canGo_86 (by decide) (fun c7 => ?_) (fun c7 => ?_)
          · have hw := hw.1 c7
            refine a_iconst (pc := 93) C dX6_canGo_93 ic_0 ?_
            exact a_zret rfl C dX6_canGo_94 (fun h n u hV => ⟨⟨_, rfl, hw, hV⟩, s_end hs hV⟩)
          · have hw := hw.2 c7
            refine a_iconst (pc := 89) C dX6_canGo_89 ic_1 ?_
            refine a_goto (pc := 90) C 94 dX6_canGo_90 (by decide) ?_
            exact a_zret rfl C dX6_canGo_94 (fun h n u hV => ⟨⟨_, rfl, hw, hV⟩, s_end hs hV⟩)
        refine a_icmp_ne (pc := 76) C 84 dX6_canGo_76 (by decide) (fun c4 => ?_) (fun c4 => ?_)
        · have hw := hw.1 c4
          refine a_bipush (pc := 84) C dX6_canGo_84 bc_11 ?_
          exact hkj5 _ hw
        · have hw := hw.2 c4
          refine a_bipush (pc := 79) C dX6_canGo_79 bc_48 ?_
          refine a_goto (pc := 81) C 86 dX6_canGo_81 (by decide) ?_
          exact hkj5 _ hw
    · have hw := hw.2 c2
      refine a_iload_1 (pc := 37) C dX6_canGo_37 ?_
      refine a_bipush (pc := 38) C dX6_canGo_38 bc_100 ?_
      refine a_icmp_ge (pc := 40) C 65 dX6_canGo_40 (by decide) (fun c8 => ?_) (fun c8 => ?_)
      · have hw := hw.1 c8
        refine a_iconst (pc := 65) C dX6_canGo_65 ic_0 ?_
        refine a_goto (pc := 66) C 94 dX6_canGo_66 (by decide) ?_
        exact a_zret rfl C dX6_canGo_94 (fun h n u hV => ⟨⟨_, rfl, hw, hV⟩, s_end hs hV⟩)
      · have hw := hw.2 c8
        refine a_iload_3 (pc := 43) C dX6_canGo_43 ?_
        refine a_iload_1 (pc := 44) C dX6_canGo_44 ?_
        refine a_bipush (pc := 45) C dX6_canGo_45 bc_10 ?_
        refine jn_use hw (fun kj10 ekj10 hw => ?_)
        have hkj10 : ∀ (x11 : Int32), kj10 x11 → AW G p l e (aRm 1 0 0) s m args below meth c (a_A h0 n0) 4 (MQ below (a_Qc G (s_pi Q h0 n0 u0) (a_A h0 n0)) args s 0 0 (a_A h0 n0)) (aIs h0 n0 u0) 58 [some (.int p1), some (.int p2), some (.int p3), some (.int ((10 * p2) + p3))] [.int x11, .int ((10 * p2) + p3)] := by
          intro x11 hw
          rw [ekj10] at hw
          refine a_icmp_gt (pc := 58) C 65 dX6_canGo_58 (by decide) (fun c12 => ?_) (fun c12 => ?_)
          · have hw := hw.1 c12
            refine a_iconst (pc := 65) C dX6_canGo_65 ic_0 ?_
            refine a_goto (pc := 66) C 94 dX6_canGo_66 (by decide) ?_
            exact a_zret rfl C dX6_canGo_94 (fun h n u hV => ⟨⟨_, rfl, hw, hV⟩, s_end hs hV⟩)
          · have hw := hw.2 c12
            refine a_iconst (pc := 61) C dX6_canGo_61 ic_1 ?_
            refine a_goto (pc := 62) C 94 dX6_canGo_62 (by decide) ?_
            exact a_zret rfl C dX6_canGo_94 (fun h n u hV => ⟨⟨_, rfl, hw, hV⟩, s_end hs hV⟩)
        refine a_icmp_ge (pc := 47) C 55 dX6_canGo_47 (by decide) (fun c9 => ?_) (fun c9 => ?_)
        · have hw := hw.1 c9
          refine a_sipush (pc := 55) C dX6_canGo_55 sc_900 ?_
          exact hkj10 _ hw
        · have hw := hw.2 c9
          refine a_bipush (pc := 50) C dX6_canGo_50 bc_90 ?_
          refine a_goto (pc := 52) C 58 dX6_canGo_52 (by decide) ?_
          exact hkj10 _ hw
  · have hw := hw.2 c1
    refine a_iload_2 (pc := 5) C dX6_canGo_5 ?_
    refine a_if_gt (pc := 6) C 19 dX6_canGo_6 (by decide) (fun c13 => ?_) (fun c13 => ?_)
    · have hw := hw.1 c13
      refine a_iconst (pc := 19) C dX6_canGo_19 ic_1 ?_
      refine a_goto (pc := 20) C 24 dX6_canGo_20 (by decide) ?_
      exact a_zret rfl C dX6_canGo_24 (fun h n u hV => ⟨⟨_, rfl, hw, hV⟩, s_end hs hV⟩)
    · have hw := hw.2 c13
      refine a_iload_0 (pc := 9) C dX6_canGo_9 ?_
      refine a_iconst (pc := 10) C dX6_canGo_10 ic_2 ?_
      refine a_icmp_eq (pc := 11) C 19 dX6_canGo_11 (by decide) (fun c14 => ?_) (fun c14 => ?_)
      · have hw := hw.1 c14
        refine a_iconst (pc := 19) C dX6_canGo_19 ic_1 ?_
        refine a_goto (pc := 20) C 24 dX6_canGo_20 (by decide) ?_
        exact a_zret rfl C dX6_canGo_24 (fun h n u hV => ⟨⟨_, rfl, hw, hV⟩, s_end hs hV⟩)
      · have hw := hw.2 c14
        refine a_iload_0 (pc := 14) C dX6_canGo_14 ?_
        refine a_iconst (pc := 15) C dX6_canGo_15 ic_3 ?_
        refine a_icmp_ne (pc := 16) C 23 dX6_canGo_16 (by decide) (fun c15 => ?_) (fun c15 => ?_)
        · have hw := hw.1 c15
          refine a_iconst (pc := 23) C dX6_canGo_23 ic_0 ?_
          exact a_zret rfl C dX6_canGo_24 (fun h n u hV => ⟨⟨_, rfl, hw, hV⟩, s_end hs hV⟩)
        · have hw := hw.2 c15
          refine a_iconst (pc := 19) C dX6_canGo_19 ic_1 ?_
          refine a_goto (pc := 20) C 24 dX6_canGo_20 (by decide) ?_
          exact a_zret rfl C dX6_canGo_24 (fun h n u hV => ⟨⟨_, rfl, hw, hV⟩, s_end hs hV⟩)
def wp_X6_follows (p1 : Int32) (p2 : Int32) (p3 : Int32) (Q : Int32 → Prop) : Prop := (wp_X6_isNumber p1 (fun v1 => (((v1 = 0) → (jn (fun (x5 : Int32) => ((p1 = 0 → (((¬ p3 = 43) → (((p3 = 115) → (Q 2)) ∧ ((¬ p3 = 115) → (((p3 = 104) → (Q 2)) ∧ ((¬ p3 = 104) → (((p3 = 107) → (Q 2)) ∧ ((¬ p3 = 107) → (((¬ p3 = 112) → (((¬ p3 = 100) → (((¬ p3 = 110) → (((p3 = 97) → (Q 5)) ∧ ((¬ p3 = 97) → (((p3 = 119) → (Q 5)) ∧ ((¬ p3 = 119) → (((¬ p3 = 116) → (((¬ p3 = 108) → (Q ((-1)))) ∧ ((p3 = 108) → (Q 8)))) ∧ ((p3 = 116) → (Q 5)))))))) ∧ ((p3 = 110) → (Q 4)))) ∧ ((p3 = 100) → (Q 3)))) ∧ ((p3 = 112) → (Q 2)))))))))) ∧ ((p3 = 43) → (Q 1)))) ∧ (¬ p1 = 0 → ((p1 = 1 → (((p2 < 100) → (Q ((-1)))) ∧ ((¬ p2 < 100) → (Q x5)))) ∧ (¬ p1 = 1 → ((p1 = 2 → (((p2 = ((-1))) → (Q ((-1)))) ∧ ((¬ p2 = ((-1))) → (Q x5)))) ∧ (¬ p1 = 2 → ((p1 = 3 → (((p2 = ((-1))) → (Q ((-1)))) ∧ ((¬ p2 = ((-1))) → (((¬ p3 = 62) → (Q ((-1)))) ∧ ((p3 = 62) → (Q 7)))))) ∧ (¬ p1 = 3 → ((p1 = 4 → (((p2 = ((-1))) → (Q ((-1)))) ∧ ((¬ p2 = ((-1))) → (Q x5)))) ∧ (¬ p1 = 4 → ((p1 = 5 → (wp_X6_in p3 48 51 (fun v23 => (((v23 = 0) → (Q ((-1)))) ∧ ((¬ v23 = 0) → (Q 6)))))) ∧ (¬ p1 = 5 → ((p1 = 6 → (((¬ p3 = 61) → (Q ((-1)))) ∧ ((p3 = 61) → (Q 7)))) ∧ (¬ p1 = 6 → ((p1 = 7 → (wp_X6_in p3 48 51 (fun v26 => (((v26 = 0) → (Q ((-1)))) ∧ ((¬ v26 = 0) → (Q 8)))))) ∧ (¬ p1 = 7 → (Q x5)))))))))))))))))) (fun kj4 => (((¬ p3 = 44) → (kj4 ((-1)))) ∧ ((p3 = 44) → (kj4 0)))))) ∧ ((¬ v1 = 0) → (wp_X6_isDigit p3 (fun v28 => (((v28 = 0) → (jn (fun (x32 : Int32) => ((p1 = 0 → (((¬ p3 = 43) → (((p3 = 115) → (Q 2)) ∧ ((¬ p3 = 115) → (((p3 = 104) → (Q 2)) ∧ ((¬ p3 = 104) → (((p3 = 107) → (Q 2)) ∧ ((¬ p3 = 107) → (((¬ p3 = 112) → (((¬ p3 = 100) → (((¬ p3 = 110) → (((p3 = 97) → (Q 5)) ∧ ((¬ p3 = 97) → (((p3 = 119) → (Q 5)) ∧ ((¬ p3 = 119) → (((¬ p3 = 116) → (((¬ p3 = 108) → (Q ((-1)))) ∧ ((p3 = 108) → (Q 8)))) ∧ ((p3 = 116) → (Q 5)))))))) ∧ ((p3 = 110) → (Q 4)))) ∧ ((p3 = 100) → (Q 3)))) ∧ ((p3 = 112) → (Q 2)))))))))) ∧ ((p3 = 43) → (Q 1)))) ∧ (¬ p1 = 0 → ((p1 = 1 → (((p2 < 100) → (Q ((-1)))) ∧ ((¬ p2 < 100) → (Q x32)))) ∧ (¬ p1 = 1 → ((p1 = 2 → (((p2 = ((-1))) → (Q ((-1)))) ∧ ((¬ p2 = ((-1))) → (Q x32)))) ∧ (¬ p1 = 2 → ((p1 = 3 → (((p2 = ((-1))) → (Q ((-1)))) ∧ ((¬ p2 = ((-1))) → (((¬ p3 = 62) → (Q ((-1)))) ∧ ((p3 = 62) → (Q 7)))))) ∧ (¬ p1 = 3 → ((p1 = 4 → (((p2 = ((-1))) → (Q ((-1)))) ∧ ((¬ p2 = ((-1))) → (Q x32)))) ∧ (¬ p1 = 4 → ((p1 = 5 → (wp_X6_in p3 48 51 (fun v50 => (((v50 = 0) → (Q ((-1)))) ∧ ((¬ v50 = 0) → (Q 6)))))) ∧ (¬ p1 = 5 → ((p1 = 6 → (((¬ p3 = 61) → (Q ((-1)))) ∧ ((p3 = 61) → (Q 7)))) ∧ (¬ p1 = 6 → ((p1 = 7 → (wp_X6_in p3 48 51 (fun v53 => (((v53 = 0) → (Q ((-1)))) ∧ ((¬ v53 = 0) → (Q 8)))))) ∧ (¬ p1 = 7 → (Q x32)))))))))))))))))) (fun kj31 => (((¬ p3 = 44) → (kj31 ((-1)))) ∧ ((p3 = 44) → (kj31 0)))))) ∧ ((¬ v28 = 0) → (wp_X6_canGo p1 p2 (p3 - 48) (fun v55 => (((v55 = 0) → (Q ((-1)))) ∧ ((¬ v55 = 0) → (Q p1)))))))))))))
theorem sg_X6_follows : aSig yX6_follows 3 := by decide +kernel
set_option maxHeartbeats 4000000 in
theorem ct_X6_follows (l : Launch) (G : aG) (p1 : Int32) (p2 : Int32) (p3 : Int32)  (Q : Int32 → Prop) (hw : wp_X6_follows p1 p2 p3 Q) (h0 : AH) (n0 u0 : Nat) : CT l yX6_follows (ws_ yX6_follows cX6_follows 4 (some .int)) 3 G [.int p1, .int p2, .int p3] h0 n0 u0 0 0 (s_pi Q h0 n0 u0) := by
  refine CT.intro [some (.int p1), some (.int p2), some (.int p3), none] pn_RX6 rfl (Nat.le_of_ble_eq_true rfl) ?_
  intro p e s m args below meth c C hz hu
  have hs : s.heap.size = n0 ∧ slT s.heap = u0 := ⟨hz, hu⟩
  unfold wp_X6_follows at hw
  refine a_iload_0 (pc := 0) C dX6_follows_0 ?_
  refine s_callS1p (pc := 1) C hs (fun h n u => ct_X6_isNumber l G _ _ hw h n u) (by decide) (by decide) (lw_S q2012 q2013 q77 q2014) sg_X6_isNumber (Nat.le_of_ble_eq_true rfl) dX6_follows_1 (fun v1 hw => ?_)
  refine a_if_eq (pc := 4) C 32 dX6_follows_4 (by decide) (fun c2 => ?_) (fun c2 => ?_)
  · have hw := hw.1 c2
    refine a_iload_2 (pc := 32) C dX6_follows_32 ?_
    refine a_bipush (pc := 33) C dX6_follows_33 bc_44 ?_
    refine jn_use hw (fun kj4 ekj4 hw => ?_)
    have hkj4 : ∀ (x5 : Int32), kj4 x5 → AW G p l e (aRm 3 0 0) s m args below meth c (a_A h0 n0) 4 (MQ below (a_Qc G (s_pi Q h0 n0 u0) (a_A h0 n0)) args s 0 0 (a_A h0 n0)) (aIs h0 n0 u0) 43 [some (.int p1), some (.int p2), some (.int p3), none] [.int x5] := by
      intro x5 hw
      rw [ekj4] at hw
      refine a_istore_3 (pc := 43) C dX6_follows_43 (by decide) rfl ?_
      refine a_iload_0 (pc := 44) C dX6_follows_44 ?_
      by_cases c6_0 : p1 = 0
      · have hw := hw.1 c6_0
        refine a_tableIn (pc := 45) C 92 dX6_follows_45 (by rw [c6_0]; decide) (by rw [c6_0]; decide) (by rw [c6_0]; rfl) (by decide) ?_
        refine a_iload_2 (pc := 92) C dX6_follows_92 ?_
        refine a_bipush (pc := 93) C dX6_follows_93 bc_43 ?_
        refine a_icmp_ne (pc := 95) C 102 dX6_follows_95 (by decide) (fun c7 => ?_) (fun c7 => ?_)
        · have hw := hw.1 c7
          refine a_iload_2 (pc := 102) C dX6_follows_102 ?_
          refine a_bipush (pc := 103) C dX6_follows_103 bc_115 ?_
          refine a_icmp_eq (pc := 105) C 126 dX6_follows_105 (by decide) (fun c8 => ?_) (fun c8 => ?_)
          · have hw := hw.1 c8
            refine a_iconst (pc := 126) C dX6_follows_126 ic_2 ?_
            refine a_goto (pc := 127) C 184 dX6_follows_127 (by decide) ?_
            exact a_iret C dX6_follows_184 (fun h n u hV => ⟨⟨_, rfl, hw, hV⟩, s_end hs hV⟩)
          · have hw := hw.2 c8
            refine a_iload_2 (pc := 108) C dX6_follows_108 ?_
            refine a_bipush (pc := 109) C dX6_follows_109 bc_104 ?_
            refine a_icmp_eq (pc := 111) C 126 dX6_follows_111 (by decide) (fun c9 => ?_) (fun c9 => ?_)
            · have hw := hw.1 c9
              refine a_iconst (pc := 126) C dX6_follows_126 ic_2 ?_
              refine a_goto (pc := 127) C 184 dX6_follows_127 (by decide) ?_
              exact a_iret C dX6_follows_184 (fun h n u hV => ⟨⟨_, rfl, hw, hV⟩, s_end hs hV⟩)
            · have hw := hw.2 c9
              refine a_iload_2 (pc := 114) C dX6_follows_114 ?_
              refine a_bipush (pc := 115) C dX6_follows_115 bc_107 ?_
              refine a_icmp_eq (pc := 117) C 126 dX6_follows_117 (by decide) (fun c10 => ?_) (fun c10 => ?_)
              · have hw := hw.1 c10
                refine a_iconst (pc := 126) C dX6_follows_126 ic_2 ?_
                refine a_goto (pc := 127) C 184 dX6_follows_127 (by decide) ?_
                exact a_iret C dX6_follows_184 (fun h n u hV => ⟨⟨_, rfl, hw, hV⟩, s_end hs hV⟩)
              · have hw := hw.2 c10
                refine a_iload_2 (pc := 120) C dX6_follows_120 ?_
                refine a_bipush (pc := 121) C dX6_follows_121 bc_112 ?_
                refine a_icmp_ne (pc := 123) C 130 dX6_follows_123 (by decide) (fun c11 => ?_) (fun c11 => ?_)
                · have hw := hw.1 c11
                  refine a_iload_2 (pc := 130) C dX6_follows_130 ?_
                  refine a_bipush (pc := 131) C dX6_follows_131 bc_100 ?_
                  refine a_icmp_ne (pc := 133) C 140 dX6_follows_133 (by decide) (fun c12 => ?_) (fun c12 => ?_)
                  · have hw := hw.1 c12
                    refine a_iload_2 (pc := 140) C dX6_follows_140 ?_
                    refine a_bipush (pc := 141) C dX6_follows_141 bc_110 ?_
                    refine a_icmp_ne (pc := 143) C 150 dX6_follows_143 (by decide) (fun c13 => ?_) (fun c13 => ?_)
                    · have hw := hw.1 c13
                      refine a_iload_2 (pc := 150) C dX6_follows_150 ?_
                      refine a_bipush (pc := 151) C dX6_follows_151 bc_97 ?_
                      refine a_icmp_eq (pc := 153) C 168 dX6_follows_153 (by decide) (fun c14 => ?_) (fun c14 => ?_)
                      · have hw := hw.1 c14
                        refine a_iconst (pc := 168) C dX6_follows_168 ic_5 ?_
                        refine a_goto (pc := 169) C 184 dX6_follows_169 (by decide) ?_
                        exact a_iret C dX6_follows_184 (fun h n u hV => ⟨⟨_, rfl, hw, hV⟩, s_end hs hV⟩)
                      · have hw := hw.2 c14
                        refine a_iload_2 (pc := 156) C dX6_follows_156 ?_
                        refine a_bipush (pc := 157) C dX6_follows_157 bc_119 ?_
                        refine a_icmp_eq (pc := 159) C 168 dX6_follows_159 (by decide) (fun c15 => ?_) (fun c15 => ?_)
                        · have hw := hw.1 c15
                          refine a_iconst (pc := 168) C dX6_follows_168 ic_5 ?_
                          refine a_goto (pc := 169) C 184 dX6_follows_169 (by decide) ?_
                          exact a_iret C dX6_follows_184 (fun h n u hV => ⟨⟨_, rfl, hw, hV⟩, s_end hs hV⟩)
                        · have hw := hw.2 c15
                          refine a_iload_2 (pc := 162) C dX6_follows_162 ?_
                          refine a_bipush (pc := 163) C dX6_follows_163 bc_116 ?_
                          refine a_icmp_ne (pc := 165) C 172 dX6_follows_165 (by decide) (fun c16 => ?_) (fun c16 => ?_)
                          · have hw := hw.1 c16
                            refine a_iload_2 (pc := 172) C dX6_follows_172 ?_
                            refine a_bipush (pc := 173) C dX6_follows_173 bc_108 ?_
                            refine a_icmp_ne (pc := 175) C 183 dX6_follows_175 (by decide) (fun c17 => ?_) (fun c17 => ?_)
                            · have hw := hw.1 c17
                              refine a_iconst (pc := 183) C dX6_follows_183 ic_m1 ?_
                              exact a_iret C dX6_follows_184 (fun h n u hV => ⟨⟨_, rfl, hw, hV⟩, s_end hs hV⟩)
                            · have hw := hw.2 c17
                              refine a_bipush (pc := 178) C dX6_follows_178 bc_8 ?_
                              refine a_goto (pc := 180) C 184 dX6_follows_180 (by decide) ?_
                              exact a_iret C dX6_follows_184 (fun h n u hV => ⟨⟨_, rfl, hw, hV⟩, s_end hs hV⟩)
                          · have hw := hw.2 c16
                            refine a_iconst (pc := 168) C dX6_follows_168 ic_5 ?_
                            refine a_goto (pc := 169) C 184 dX6_follows_169 (by decide) ?_
                            exact a_iret C dX6_follows_184 (fun h n u hV => ⟨⟨_, rfl, hw, hV⟩, s_end hs hV⟩)
                    · have hw := hw.2 c13
                      refine a_iconst (pc := 146) C dX6_follows_146 ic_4 ?_
                      refine a_goto (pc := 147) C 184 dX6_follows_147 (by decide) ?_
                      exact a_iret C dX6_follows_184 (fun h n u hV => ⟨⟨_, rfl, hw, hV⟩, s_end hs hV⟩)
                  · have hw := hw.2 c12
                    refine a_iconst (pc := 136) C dX6_follows_136 ic_3 ?_
                    refine a_goto (pc := 137) C 184 dX6_follows_137 (by decide) ?_
                    exact a_iret C dX6_follows_184 (fun h n u hV => ⟨⟨_, rfl, hw, hV⟩, s_end hs hV⟩)
                · have hw := hw.2 c11
                  refine a_iconst (pc := 126) C dX6_follows_126 ic_2 ?_
                  refine a_goto (pc := 127) C 184 dX6_follows_127 (by decide) ?_
                  exact a_iret C dX6_follows_184 (fun h n u hV => ⟨⟨_, rfl, hw, hV⟩, s_end hs hV⟩)
        · have hw := hw.2 c7
          refine a_iconst (pc := 98) C dX6_follows_98 ic_1 ?_
          refine a_goto (pc := 99) C 184 dX6_follows_99 (by decide) ?_
          exact a_iret C dX6_follows_184 (fun h n u hV => ⟨⟨_, rfl, hw, hV⟩, s_end hs hV⟩)
      · have hw := hw.2 c6_0
        by_cases c6_1 : p1 = 1
        · have hw := hw.1 c6_1
          refine a_tableIn (pc := 45) C 185 dX6_follows_45 (by rw [c6_1]; decide) (by rw [c6_1]; decide) (by rw [c6_1]; rfl) (by decide) ?_
          refine a_iload_1 (pc := 185) C dX6_follows_185 ?_
          refine a_bipush (pc := 186) C dX6_follows_186 bc_100 ?_
          refine a_icmp_lt (pc := 188) C 195 dX6_follows_188 (by decide) (fun c18 => ?_) (fun c18 => ?_)
          · have hw := hw.1 c18
            refine a_iconst (pc := 195) C dX6_follows_195 ic_m1 ?_
            exact a_iret C dX6_follows_196 (fun h n u hV => ⟨⟨_, rfl, hw, hV⟩, s_end hs hV⟩)
          · have hw := hw.2 c18
            refine a_iload_3 (pc := 191) C dX6_follows_191 ?_
            refine a_goto (pc := 192) C 196 dX6_follows_192 (by decide) ?_
            exact a_iret C dX6_follows_196 (fun h n u hV => ⟨⟨_, rfl, hw, hV⟩, s_end hs hV⟩)
        · have hw := hw.2 c6_1
          by_cases c6_2 : p1 = 2
          · have hw := hw.1 c6_2
            refine a_tableIn (pc := 45) C 197 dX6_follows_45 (by rw [c6_2]; decide) (by rw [c6_2]; decide) (by rw [c6_2]; rfl) (by decide) ?_
            refine a_iload_1 (pc := 197) C dX6_follows_197 ?_
            refine a_iconst (pc := 198) C dX6_follows_198 ic_m1 ?_
            refine a_icmp_eq (pc := 199) C 206 dX6_follows_199 (by decide) (fun c19 => ?_) (fun c19 => ?_)
            · have hw := hw.1 c19
              refine a_iconst (pc := 206) C dX6_follows_206 ic_m1 ?_
              exact a_iret C dX6_follows_207 (fun h n u hV => ⟨⟨_, rfl, hw, hV⟩, s_end hs hV⟩)
            · have hw := hw.2 c19
              refine a_iload_3 (pc := 202) C dX6_follows_202 ?_
              refine a_goto (pc := 203) C 207 dX6_follows_203 (by decide) ?_
              exact a_iret C dX6_follows_207 (fun h n u hV => ⟨⟨_, rfl, hw, hV⟩, s_end hs hV⟩)
          · have hw := hw.2 c6_2
            by_cases c6_3 : p1 = 3
            · have hw := hw.1 c6_3
              refine a_tableIn (pc := 45) C 208 dX6_follows_45 (by rw [c6_3]; decide) (by rw [c6_3]; decide) (by rw [c6_3]; rfl) (by decide) ?_
              refine a_iload_1 (pc := 208) C dX6_follows_208 ?_
              refine a_iconst (pc := 209) C dX6_follows_209 ic_m1 ?_
              refine a_icmp_eq (pc := 210) C 224 dX6_follows_210 (by decide) (fun c20 => ?_) (fun c20 => ?_)
              · have hw := hw.1 c20
                refine a_iconst (pc := 224) C dX6_follows_224 ic_m1 ?_
                exact a_iret C dX6_follows_225 (fun h n u hV => ⟨⟨_, rfl, hw, hV⟩, s_end hs hV⟩)
              · have hw := hw.2 c20
                refine a_iload_2 (pc := 213) C dX6_follows_213 ?_
                refine a_bipush (pc := 214) C dX6_follows_214 bc_62 ?_
                refine a_icmp_ne (pc := 216) C 224 dX6_follows_216 (by decide) (fun c21 => ?_) (fun c21 => ?_)
                · have hw := hw.1 c21
                  refine a_iconst (pc := 224) C dX6_follows_224 ic_m1 ?_
                  exact a_iret C dX6_follows_225 (fun h n u hV => ⟨⟨_, rfl, hw, hV⟩, s_end hs hV⟩)
                · have hw := hw.2 c21
                  refine a_bipush (pc := 219) C dX6_follows_219 bc_7 ?_
                  refine a_goto (pc := 221) C 225 dX6_follows_221 (by decide) ?_
                  exact a_iret C dX6_follows_225 (fun h n u hV => ⟨⟨_, rfl, hw, hV⟩, s_end hs hV⟩)
            · have hw := hw.2 c6_3
              by_cases c6_4 : p1 = 4
              · have hw := hw.1 c6_4
                refine a_tableIn (pc := 45) C 197 dX6_follows_45 (by rw [c6_4]; decide) (by rw [c6_4]; decide) (by rw [c6_4]; rfl) (by decide) ?_
                refine a_iload_1 (pc := 197) C dX6_follows_197 ?_
                refine a_iconst (pc := 198) C dX6_follows_198 ic_m1 ?_
                refine a_icmp_eq (pc := 199) C 206 dX6_follows_199 (by decide) (fun c22 => ?_) (fun c22 => ?_)
                · have hw := hw.1 c22
                  refine a_iconst (pc := 206) C dX6_follows_206 ic_m1 ?_
                  exact a_iret C dX6_follows_207 (fun h n u hV => ⟨⟨_, rfl, hw, hV⟩, s_end hs hV⟩)
                · have hw := hw.2 c22
                  refine a_iload_3 (pc := 202) C dX6_follows_202 ?_
                  refine a_goto (pc := 203) C 207 dX6_follows_203 (by decide) ?_
                  exact a_iret C dX6_follows_207 (fun h n u hV => ⟨⟨_, rfl, hw, hV⟩, s_end hs hV⟩)
              · have hw := hw.2 c6_4
                by_cases c6_5 : p1 = 5
                · have hw := hw.1 c6_5
                  refine a_tableIn (pc := 45) C 226 dX6_follows_45 (by rw [c6_5]; decide) (by rw [c6_5]; decide) (by rw [c6_5]; rfl) (by decide) ?_
                  refine a_iload_2 (pc := 226) C dX6_follows_226 ?_
                  refine a_bipush (pc := 227) C dX6_follows_227 bc_48 ?_
                  refine a_bipush (pc := 229) C dX6_follows_229 bc_51 ?_
                  refine s_callS3p (pc := 231) C hs (fun h n u => ct_X6_in l G _ _ _ _ hw h n u) (by decide) (by decide) (lw_S q1821 q1822 q77 q1823) sg_X6_in (Nat.le_of_ble_eq_true rfl) dX6_follows_231 (fun v23 hw => ?_)
                  refine a_if_eq (pc := 234) C 242 dX6_follows_234 (by decide) (fun c24 => ?_) (fun c24 => ?_)
                  · have hw := hw.1 c24
                    refine a_iconst (pc := 242) C dX6_follows_242 ic_m1 ?_
                    exact a_iret C dX6_follows_243 (fun h n u hV => ⟨⟨_, rfl, hw, hV⟩, s_end hs hV⟩)
                  · have hw := hw.2 c24
                    refine a_bipush (pc := 237) C dX6_follows_237 bc_6 ?_
                    refine a_goto (pc := 239) C 243 dX6_follows_239 (by decide) ?_
                    exact a_iret C dX6_follows_243 (fun h n u hV => ⟨⟨_, rfl, hw, hV⟩, s_end hs hV⟩)
                · have hw := hw.2 c6_5
                  by_cases c6_6 : p1 = 6
                  · have hw := hw.1 c6_6
                    refine a_tableIn (pc := 45) C 244 dX6_follows_45 (by rw [c6_6]; decide) (by rw [c6_6]; decide) (by rw [c6_6]; rfl) (by decide) ?_
                    refine a_iload_2 (pc := 244) C dX6_follows_244 ?_
                    refine a_bipush (pc := 245) C dX6_follows_245 bc_61 ?_
                    refine a_icmp_ne (pc := 247) C 255 dX6_follows_247 (by decide) (fun c25 => ?_) (fun c25 => ?_)
                    · have hw := hw.1 c25
                      refine a_iconst (pc := 255) C dX6_follows_255 ic_m1 ?_
                      exact a_iret C dX6_follows_256 (fun h n u hV => ⟨⟨_, rfl, hw, hV⟩, s_end hs hV⟩)
                    · have hw := hw.2 c25
                      refine a_bipush (pc := 250) C dX6_follows_250 bc_7 ?_
                      refine a_goto (pc := 252) C 256 dX6_follows_252 (by decide) ?_
                      exact a_iret C dX6_follows_256 (fun h n u hV => ⟨⟨_, rfl, hw, hV⟩, s_end hs hV⟩)
                  · have hw := hw.2 c6_6
                    by_cases c6_7 : p1 = 7
                    · have hw := hw.1 c6_7
                      refine a_tableIn (pc := 45) C 257 dX6_follows_45 (by rw [c6_7]; decide) (by rw [c6_7]; decide) (by rw [c6_7]; rfl) (by decide) ?_
                      refine a_iload_2 (pc := 257) C dX6_follows_257 ?_
                      refine a_bipush (pc := 258) C dX6_follows_258 bc_48 ?_
                      refine a_bipush (pc := 260) C dX6_follows_260 bc_51 ?_
                      refine s_callS3p (pc := 262) C hs (fun h n u => ct_X6_in l G _ _ _ _ hw h n u) (by decide) (by decide) (lw_S q1821 q1822 q77 q1823) sg_X6_in (Nat.le_of_ble_eq_true rfl) dX6_follows_262 (fun v26 hw => ?_)
                      refine a_if_eq (pc := 265) C 273 dX6_follows_265 (by decide) (fun c27 => ?_) (fun c27 => ?_)
                      · have hw := hw.1 c27
                        refine a_iconst (pc := 273) C dX6_follows_273 ic_m1 ?_
                        exact a_iret C dX6_follows_274 (fun h n u hV => ⟨⟨_, rfl, hw, hV⟩, s_end hs hV⟩)
                      · have hw := hw.2 c27
                        refine a_bipush (pc := 268) C dX6_follows_268 bc_8 ?_
                        refine a_goto (pc := 270) C 274 dX6_follows_270 (by decide) ?_
                        exact a_iret C dX6_follows_274 (fun h n u hV => ⟨⟨_, rfl, hw, hV⟩, s_end hs hV⟩)
                    · have hw := hw.2 c6_7
                      refine a_tableOut (pc := 45) C 275 dX6_follows_45 (by have := lv_neT c6_0 (a := 0) (by decide); have := lv_neT c6_1 (a := 1) (by decide); have := lv_neT c6_2 (a := 2) (by decide); have := lv_neT c6_3 (a := 3) (by decide); have := lv_neT c6_4 (a := 4) (by decide); have := lv_neT c6_5 (a := 5) (by decide); have := lv_neT c6_6 (a := 6) (by decide); have := lv_neT c6_7 (a := 7) (by decide); omega) (by decide) ?_
                      refine a_iload_3 (pc := 275) C dX6_follows_275 ?_
                      exact a_iret C dX6_follows_276 (fun h n u hV => ⟨⟨_, rfl, hw, hV⟩, s_end hs hV⟩)
    refine a_icmp_ne (pc := 35) C 42 dX6_follows_35 (by decide) (fun c3 => ?_) (fun c3 => ?_)
    · have hw := hw.1 c3
      refine a_iconst (pc := 42) C dX6_follows_42 ic_m1 ?_
      exact hkj4 _ hw
    · have hw := hw.2 c3
      refine a_iconst (pc := 38) C dX6_follows_38 ic_0 ?_
      refine a_goto (pc := 39) C 43 dX6_follows_39 (by decide) ?_
      exact hkj4 _ hw
  · have hw := hw.2 c2
    refine a_iload_2 (pc := 7) C dX6_follows_7 ?_
    refine s_callS1p (pc := 8) C hs (fun h n u => ct_X6_isDigit l G _ _ hw h n u) (by decide) (by decide) (lw_S q2015 q2016 q77 q2017) sg_X6_isDigit (Nat.le_of_ble_eq_true rfl) dX6_follows_8 (fun v28 hw => ?_)
    refine a_if_eq (pc := 11) C 32 dX6_follows_11 (by decide) (fun c29 => ?_) (fun c29 => ?_)
    · have hw := hw.1 c29
      refine a_iload_2 (pc := 32) C dX6_follows_32 ?_
      refine a_bipush (pc := 33) C dX6_follows_33 bc_44 ?_
      refine jn_use hw (fun kj31 ekj31 hw => ?_)
      have hkj31 : ∀ (x32 : Int32), kj31 x32 → AW G p l e (aRm 3 0 0) s m args below meth c (a_A h0 n0) 4 (MQ below (a_Qc G (s_pi Q h0 n0 u0) (a_A h0 n0)) args s 0 0 (a_A h0 n0)) (aIs h0 n0 u0) 43 [some (.int p1), some (.int p2), some (.int p3), none] [.int x32] := by
        intro x32 hw
        rw [ekj31] at hw
        refine a_istore_3 (pc := 43) C dX6_follows_43 (by decide) rfl ?_
        refine a_iload_0 (pc := 44) C dX6_follows_44 ?_
        by_cases c33_0 : p1 = 0
        · have hw := hw.1 c33_0
          refine a_tableIn (pc := 45) C 92 dX6_follows_45 (by rw [c33_0]; decide) (by rw [c33_0]; decide) (by rw [c33_0]; rfl) (by decide) ?_
          refine a_iload_2 (pc := 92) C dX6_follows_92 ?_
          refine a_bipush (pc := 93) C dX6_follows_93 bc_43 ?_
          refine a_icmp_ne (pc := 95) C 102 dX6_follows_95 (by decide) (fun c34 => ?_) (fun c34 => ?_)
          · have hw := hw.1 c34
            refine a_iload_2 (pc := 102) C dX6_follows_102 ?_
            refine a_bipush (pc := 103) C dX6_follows_103 bc_115 ?_
            refine a_icmp_eq (pc := 105) C 126 dX6_follows_105 (by decide) (fun c35 => ?_) (fun c35 => ?_)
            · have hw := hw.1 c35
              refine a_iconst (pc := 126) C dX6_follows_126 ic_2 ?_
              refine a_goto (pc := 127) C 184 dX6_follows_127 (by decide) ?_
              exact a_iret C dX6_follows_184 (fun h n u hV => ⟨⟨_, rfl, hw, hV⟩, s_end hs hV⟩)
            · have hw := hw.2 c35
              refine a_iload_2 (pc := 108) C dX6_follows_108 ?_
              refine a_bipush (pc := 109) C dX6_follows_109 bc_104 ?_
              refine a_icmp_eq (pc := 111) C 126 dX6_follows_111 (by decide) (fun c36 => ?_) (fun c36 => ?_)
              · have hw := hw.1 c36
                refine a_iconst (pc := 126) C dX6_follows_126 ic_2 ?_
                refine a_goto (pc := 127) C 184 dX6_follows_127 (by decide) ?_
                exact a_iret C dX6_follows_184 (fun h n u hV => ⟨⟨_, rfl, hw, hV⟩, s_end hs hV⟩)
              · have hw := hw.2 c36
                refine a_iload_2 (pc := 114) C dX6_follows_114 ?_
                refine a_bipush (pc := 115) C dX6_follows_115 bc_107 ?_
                refine a_icmp_eq (pc := 117) C 126 dX6_follows_117 (by decide) (fun c37 => ?_) (fun c37 => ?_)
                · have hw := hw.1 c37
                  refine a_iconst (pc := 126) C dX6_follows_126 ic_2 ?_
                  refine a_goto (pc := 127) C 184 dX6_follows_127 (by decide) ?_
                  exact a_iret C dX6_follows_184 (fun h n u hV => ⟨⟨_, rfl, hw, hV⟩, s_end hs hV⟩)
                · have hw := hw.2 c37
                  refine a_iload_2 (pc := 120) C dX6_follows_120 ?_
                  refine a_bipush (pc := 121) C dX6_follows_121 bc_112 ?_
                  refine a_icmp_ne (pc := 123) C 130 dX6_follows_123 (by decide) (fun c38 => ?_) (fun c38 => ?_)
                  · have hw := hw.1 c38
                    refine a_iload_2 (pc := 130) C dX6_follows_130 ?_
                    refine a_bipush (pc := 131) C dX6_follows_131 bc_100 ?_
                    refine a_icmp_ne (pc := 133) C 140 dX6_follows_133 (by decide) (fun c39 => ?_) (fun c39 => ?_)
                    · have hw := hw.1 c39
                      refine a_iload_2 (pc := 140) C dX6_follows_140 ?_
                      refine a_bipush (pc := 141) C dX6_follows_141 bc_110 ?_
                      refine a_icmp_ne (pc := 143) C 150 dX6_follows_143 (by decide) (fun c40 => ?_) (fun c40 => ?_)
                      · have hw := hw.1 c40
                        refine a_iload_2 (pc := 150) C dX6_follows_150 ?_
                        refine a_bipush (pc := 151) C dX6_follows_151 bc_97 ?_
                        refine a_icmp_eq (pc := 153) C 168 dX6_follows_153 (by decide) (fun c41 => ?_) (fun c41 => ?_)
                        · have hw := hw.1 c41
                          refine a_iconst (pc := 168) C dX6_follows_168 ic_5 ?_
                          refine a_goto (pc := 169) C 184 dX6_follows_169 (by decide) ?_
                          exact a_iret C dX6_follows_184 (fun h n u hV => ⟨⟨_, rfl, hw, hV⟩, s_end hs hV⟩)
                        · have hw := hw.2 c41
                          refine a_iload_2 (pc := 156) C dX6_follows_156 ?_
                          refine a_bipush (pc := 157) C dX6_follows_157 bc_119 ?_
                          refine a_icmp_eq (pc := 159) C 168 dX6_follows_159 (by decide) (fun c42 => ?_) (fun c42 => ?_)
                          · have hw := hw.1 c42
                            refine a_iconst (pc := 168) C dX6_follows_168 ic_5 ?_
                            refine a_goto (pc := 169) C 184 dX6_follows_169 (by decide) ?_
                            exact a_iret C dX6_follows_184 (fun h n u hV => ⟨⟨_, rfl, hw, hV⟩, s_end hs hV⟩)
                          · have hw := hw.2 c42
                            refine a_iload_2 (pc := 162) C dX6_follows_162 ?_
                            refine a_bipush (pc := 163) C dX6_follows_163 bc_116 ?_
                            refine a_icmp_ne (pc := 165) C 172 dX6_follows_165 (by decide) (fun c43 => ?_) (fun c43 => ?_)
                            · have hw := hw.1 c43
                              refine a_iload_2 (pc := 172) C dX6_follows_172 ?_
                              refine a_bipush (pc := 173) C dX6_follows_173 bc_108 ?_
                              refine a_icmp_ne (pc := 175) C 183 dX6_follows_175 (by decide) (fun c44 => ?_) (fun c44 => ?_)
                              · have hw := hw.1 c44
                                refine a_iconst (pc := 183) C dX6_follows_183 ic_m1 ?_
                                exact a_iret C dX6_follows_184 (fun h n u hV => ⟨⟨_, rfl, hw, hV⟩, s_end hs hV⟩)
                              · have hw := hw.2 c44
                                refine a_bipush (pc := 178) C dX6_follows_178 bc_8 ?_
                                refine a_goto (pc := 180) C 184 dX6_follows_180 (by decide) ?_
                                exact a_iret C dX6_follows_184 (fun h n u hV => ⟨⟨_, rfl, hw, hV⟩, s_end hs hV⟩)
                            · have hw := hw.2 c43
                              refine a_iconst (pc := 168) C dX6_follows_168 ic_5 ?_
                              refine a_goto (pc := 169) C 184 dX6_follows_169 (by decide) ?_
                              exact a_iret C dX6_follows_184 (fun h n u hV => ⟨⟨_, rfl, hw, hV⟩, s_end hs hV⟩)
                      · have hw := hw.2 c40
                        refine a_iconst (pc := 146) C dX6_follows_146 ic_4 ?_
                        refine a_goto (pc := 147) C 184 dX6_follows_147 (by decide) ?_
                        exact a_iret C dX6_follows_184 (fun h n u hV => ⟨⟨_, rfl, hw, hV⟩, s_end hs hV⟩)
                    · have hw := hw.2 c39
                      refine a_iconst (pc := 136) C dX6_follows_136 ic_3 ?_
                      refine a_goto (pc := 137) C 184 dX6_follows_137 (by decide) ?_
                      exact a_iret C dX6_follows_184 (fun h n u hV => ⟨⟨_, rfl, hw, hV⟩, s_end hs hV⟩)
                  · have hw := hw.2 c38
                    refine a_iconst (pc := 126) C dX6_follows_126 ic_2 ?_
                    refine a_goto (pc := 127) C 184 dX6_follows_127 (by decide) ?_
                    exact a_iret C dX6_follows_184 (fun h n u hV => ⟨⟨_, rfl, hw, hV⟩, s_end hs hV⟩)
          · have hw := hw.2 c34
            refine a_iconst (pc := 98) C dX6_follows_98 ic_1 ?_
            refine a_goto (pc := 99) C 184 dX6_follows_99 (by decide) ?_
            exact a_iret C dX6_follows_184 (fun h n u hV => ⟨⟨_, rfl, hw, hV⟩, s_end hs hV⟩)
        · have hw := hw.2 c33_0
          by_cases c33_1 : p1 = 1
          · have hw := hw.1 c33_1
            refine a_tableIn (pc := 45) C 185 dX6_follows_45 (by rw [c33_1]; decide) (by rw [c33_1]; decide) (by rw [c33_1]; rfl) (by decide) ?_
            refine a_iload_1 (pc := 185) C dX6_follows_185 ?_
            refine a_bipush (pc := 186) C dX6_follows_186 bc_100 ?_
            refine a_icmp_lt (pc := 188) C 195 dX6_follows_188 (by decide) (fun c45 => ?_) (fun c45 => ?_)
            · have hw := hw.1 c45
              refine a_iconst (pc := 195) C dX6_follows_195 ic_m1 ?_
              exact a_iret C dX6_follows_196 (fun h n u hV => ⟨⟨_, rfl, hw, hV⟩, s_end hs hV⟩)
            · have hw := hw.2 c45
              refine a_iload_3 (pc := 191) C dX6_follows_191 ?_
              refine a_goto (pc := 192) C 196 dX6_follows_192 (by decide) ?_
              exact a_iret C dX6_follows_196 (fun h n u hV => ⟨⟨_, rfl, hw, hV⟩, s_end hs hV⟩)
          · have hw := hw.2 c33_1
            by_cases c33_2 : p1 = 2
            · have hw := hw.1 c33_2
              refine a_tableIn (pc := 45) C 197 dX6_follows_45 (by rw [c33_2]; decide) (by rw [c33_2]; decide) (by rw [c33_2]; rfl) (by decide) ?_
              refine a_iload_1 (pc := 197) C dX6_follows_197 ?_
              refine a_iconst (pc := 198) C dX6_follows_198 ic_m1 ?_
              refine a_icmp_eq (pc := 199) C 206 dX6_follows_199 (by decide) (fun c46 => ?_) (fun c46 => ?_)
              · have hw := hw.1 c46
                refine a_iconst (pc := 206) C dX6_follows_206 ic_m1 ?_
                exact a_iret C dX6_follows_207 (fun h n u hV => ⟨⟨_, rfl, hw, hV⟩, s_end hs hV⟩)
              · have hw := hw.2 c46
                refine a_iload_3 (pc := 202) C dX6_follows_202 ?_
                refine a_goto (pc := 203) C 207 dX6_follows_203 (by decide) ?_
                exact a_iret C dX6_follows_207 (fun h n u hV => ⟨⟨_, rfl, hw, hV⟩, s_end hs hV⟩)
            · have hw := hw.2 c33_2
              by_cases c33_3 : p1 = 3
              · have hw := hw.1 c33_3
                refine a_tableIn (pc := 45) C 208 dX6_follows_45 (by rw [c33_3]; decide) (by rw [c33_3]; decide) (by rw [c33_3]; rfl) (by decide) ?_
                refine a_iload_1 (pc := 208) C dX6_follows_208 ?_
                refine a_iconst (pc := 209) C dX6_follows_209 ic_m1 ?_
                refine a_icmp_eq (pc := 210) C 224 dX6_follows_210 (by decide) (fun c47 => ?_) (fun c47 => ?_)
                · have hw := hw.1 c47
                  refine a_iconst (pc := 224) C dX6_follows_224 ic_m1 ?_
                  exact a_iret C dX6_follows_225 (fun h n u hV => ⟨⟨_, rfl, hw, hV⟩, s_end hs hV⟩)
                · have hw := hw.2 c47
                  refine a_iload_2 (pc := 213) C dX6_follows_213 ?_
                  refine a_bipush (pc := 214) C dX6_follows_214 bc_62 ?_
                  refine a_icmp_ne (pc := 216) C 224 dX6_follows_216 (by decide) (fun c48 => ?_) (fun c48 => ?_)
                  · have hw := hw.1 c48
                    refine a_iconst (pc := 224) C dX6_follows_224 ic_m1 ?_
                    exact a_iret C dX6_follows_225 (fun h n u hV => ⟨⟨_, rfl, hw, hV⟩, s_end hs hV⟩)
                  · have hw := hw.2 c48
                    refine a_bipush (pc := 219) C dX6_follows_219 bc_7 ?_
                    refine a_goto (pc := 221) C 225 dX6_follows_221 (by decide) ?_
                    exact a_iret C dX6_follows_225 (fun h n u hV => ⟨⟨_, rfl, hw, hV⟩, s_end hs hV⟩)
              · have hw := hw.2 c33_3
                by_cases c33_4 : p1 = 4
                · have hw := hw.1 c33_4
                  refine a_tableIn (pc := 45) C 197 dX6_follows_45 (by rw [c33_4]; decide) (by rw [c33_4]; decide) (by rw [c33_4]; rfl) (by decide) ?_
                  refine a_iload_1 (pc := 197) C dX6_follows_197 ?_
                  refine a_iconst (pc := 198) C dX6_follows_198 ic_m1 ?_
                  refine a_icmp_eq (pc := 199) C 206 dX6_follows_199 (by decide) (fun c49 => ?_) (fun c49 => ?_)
                  · have hw := hw.1 c49
                    refine a_iconst (pc := 206) C dX6_follows_206 ic_m1 ?_
                    exact a_iret C dX6_follows_207 (fun h n u hV => ⟨⟨_, rfl, hw, hV⟩, s_end hs hV⟩)
                  · have hw := hw.2 c49
                    refine a_iload_3 (pc := 202) C dX6_follows_202 ?_
                    refine a_goto (pc := 203) C 207 dX6_follows_203 (by decide) ?_
                    exact a_iret C dX6_follows_207 (fun h n u hV => ⟨⟨_, rfl, hw, hV⟩, s_end hs hV⟩)
                · have hw := hw.2 c33_4
                  by_cases c33_5 : p1 = 5
                  · have hw := hw.1 c33_5
                    refine a_tableIn (pc := 45) C 226 dX6_follows_45 (by rw [c33_5]; decide) (by rw [c33_5]; decide) (by rw [c33_5]; rfl) (by decide) ?_
                    refine a_iload_2 (pc := 226) C dX6_follows_226 ?_
                    refine a_bipush (pc := 227) C dX6_follows_227 bc_48 ?_
                    refine a_bipush (pc := 229) C dX6_follows_229 bc_51 ?_
                    refine s_callS3p (pc := 231) C hs (fun h n u => ct_X6_in l G _ _ _ _ hw h n u) (by decide) (by decide) (lw_S q1821 q1822 q77 q1823) sg_X6_in (Nat.le_of_ble_eq_true rfl) dX6_follows_231 (fun v50 hw => ?_)
                    refine a_if_eq (pc := 234) C 242 dX6_follows_234 (by decide) (fun c51 => ?_) (fun c51 => ?_)
                    · have hw := hw.1 c51
                      refine a_iconst (pc := 242) C dX6_follows_242 ic_m1 ?_
                      exact a_iret C dX6_follows_243 (fun h n u hV => ⟨⟨_, rfl, hw, hV⟩, s_end hs hV⟩)
                    · have hw := hw.2 c51
                      refine a_bipush (pc := 237) C dX6_follows_237 bc_6 ?_
                      refine a_goto (pc := 239) C 243 dX6_follows_239 (by decide) ?_
                      exact a_iret C dX6_follows_243 (fun h n u hV => ⟨⟨_, rfl, hw, hV⟩, s_end hs hV⟩)
                  · have hw := hw.2 c33_5
                    by_cases c33_6 : p1 = 6
                    · have hw := hw.1 c33_6
                      refine a_tableIn (pc := 45) C 244 dX6_follows_45 (by rw [c33_6]; decide) (by rw [c33_6]; decide) (by rw [c33_6]; rfl) (by decide) ?_
                      refine a_iload_2 (pc := 244) C dX6_follows_244 ?_
                      refine a_bipush (pc := 245) C dX6_follows_245 bc_61 ?_
                      refine a_icmp_ne (pc := 247) C 255 dX6_follows_247 (by decide) (fun c52 => ?_) (fun c52 => ?_)
                      · have hw := hw.1 c52
                        refine a_iconst (pc := 255) C dX6_follows_255 ic_m1 ?_
                        exact a_iret C dX6_follows_256 (fun h n u hV => ⟨⟨_, rfl, hw, hV⟩, s_end hs hV⟩)
                      · have hw := hw.2 c52
                        refine a_bipush (pc := 250) C dX6_follows_250 bc_7 ?_
                        refine a_goto (pc := 252) C 256 dX6_follows_252 (by decide) ?_
                        exact a_iret C dX6_follows_256 (fun h n u hV => ⟨⟨_, rfl, hw, hV⟩, s_end hs hV⟩)
                    · have hw := hw.2 c33_6
                      by_cases c33_7 : p1 = 7
                      · have hw := hw.1 c33_7
                        refine a_tableIn (pc := 45) C 257 dX6_follows_45 (by rw [c33_7]; decide) (by rw [c33_7]; decide) (by rw [c33_7]; rfl) (by decide) ?_
                        refine a_iload_2 (pc := 257) C dX6_follows_257 ?_
                        refine a_bipush (pc := 258) C dX6_follows_258 bc_48 ?_
                        refine a_bipush (pc := 260) C dX6_follows_260 bc_51 ?_
                        refine s_callS3p (pc := 262) C hs (fun h n u => ct_X6_in l G _ _ _ _ hw h n u) (by decide) (by decide) (lw_S q1821 q1822 q77 q1823) sg_X6_in (Nat.le_of_ble_eq_true rfl) dX6_follows_262 (fun v53 hw => ?_)
                        refine a_if_eq (pc := 265) C 273 dX6_follows_265 (by decide) (fun c54 => ?_) (fun c54 => ?_)
                        · have hw := hw.1 c54
                          refine a_iconst (pc := 273) C dX6_follows_273 ic_m1 ?_
                          exact a_iret C dX6_follows_274 (fun h n u hV => ⟨⟨_, rfl, hw, hV⟩, s_end hs hV⟩)
                        · have hw := hw.2 c54
                          refine a_bipush (pc := 268) C dX6_follows_268 bc_8 ?_
                          refine a_goto (pc := 270) C 274 dX6_follows_270 (by decide) ?_
                          exact a_iret C dX6_follows_274 (fun h n u hV => ⟨⟨_, rfl, hw, hV⟩, s_end hs hV⟩)
                      · have hw := hw.2 c33_7
                        refine a_tableOut (pc := 45) C 275 dX6_follows_45 (by have := lv_neT c33_0 (a := 0) (by decide); have := lv_neT c33_1 (a := 1) (by decide); have := lv_neT c33_2 (a := 2) (by decide); have := lv_neT c33_3 (a := 3) (by decide); have := lv_neT c33_4 (a := 4) (by decide); have := lv_neT c33_5 (a := 5) (by decide); have := lv_neT c33_6 (a := 6) (by decide); have := lv_neT c33_7 (a := 7) (by decide); omega) (by decide) ?_
                        refine a_iload_3 (pc := 275) C dX6_follows_275 ?_
                        exact a_iret C dX6_follows_276 (fun h n u hV => ⟨⟨_, rfl, hw, hV⟩, s_end hs hV⟩)
      refine a_icmp_ne (pc := 35) C 42 dX6_follows_35 (by decide) (fun c30 => ?_) (fun c30 => ?_)
      · have hw := hw.1 c30
        refine a_iconst (pc := 42) C dX6_follows_42 ic_m1 ?_
        exact hkj31 _ hw
      · have hw := hw.2 c30
        refine a_iconst (pc := 38) C dX6_follows_38 ic_0 ?_
        refine a_goto (pc := 39) C 43 dX6_follows_39 (by decide) ?_
        exact hkj31 _ hw
    · have hw := hw.2 c29
      refine a_iload_0 (pc := 14) C dX6_follows_14 ?_
      refine a_iload_1 (pc := 15) C dX6_follows_15 ?_
      refine a_iload_2 (pc := 16) C dX6_follows_16 ?_
      refine a_bipush (pc := 17) C dX6_follows_17 bc_48 ?_
      refine a_isub (pc := 19) C dX6_follows_19 ?_
      refine s_callS3p (pc := 20) C hs (fun h n u => ct_X6_canGo l G _ _ _ _ hw h n u) (by decide) (by decide) (lw_S q2018 q2019 q77 q2020) sg_X6_canGo (Nat.le_of_ble_eq_true rfl) dX6_follows_20 (fun v55 hw => ?_)
      refine a_if_eq (pc := 23) C 30 dX6_follows_23 (by decide) (fun c56 => ?_) (fun c56 => ?_)
      · have hw := hw.1 c56
        refine a_iconst (pc := 30) C dX6_follows_30 ic_m1 ?_
        exact a_iret C dX6_follows_31 (fun h n u hV => ⟨⟨_, rfl, hw, hV⟩, s_end hs hV⟩)
      · have hw := hw.2 c56
        refine a_iload_0 (pc := 26) C dX6_follows_26 ?_
        refine a_goto (pc := 27) C 31 dX6_follows_27 (by decide) ?_
        exact a_iret C dX6_follows_31 (fun h n u hV => ⟨⟨_, rfl, hw, hV⟩, s_end hs hV⟩)
def wp_X6_faulty_L6 (Q : Int32 → MS → Prop) (kx4 : Int32 → Int32 → Int32 → Prop) (σ : MS) : Nat → Int32 → Int32 → Int32 → Prop
  | 0, _, _, _ => False
  | F + 1, x1, x2, x3 => ((((σ 5 2) ≤ x3) → (kx4 x1 x2 x3)) ∧ ((¬ (σ 5 2) ≤ x3) → (vp_in x3 (mLen 4) ∧ (wp_X6_follows x1 x2 (σ 4 x3.toNatClampNeg) (fun v23 => (((0 ≤ v23) → (jn (fun (x27 : Int32) => (wp_X6_faulty_L6 Q kx4 σ F v23 x27 (x3 + 1))) (fun kj26 => (((¬ v23 = x1) → (kj26 ((-1)))) ∧ ((v23 = x1) → (wp_X6_isNumber x1 (fun v28 => (((¬ v28 = 0) → (((¬ x2 = ((-1))) → (vp_in x3 (mLen 4) ∧ (kj26 (((10 * x2) + (σ 4 x3.toNatClampNeg)) - 48)))) ∧ ((x2 = ((-1))) → (vp_in x3 (mLen 4) ∧ (kj26 ((σ 4 x3.toNatClampNeg) - 48)))))) ∧ ((v28 = 0) → (kj26 ((-1)))))))))))) ∧ ((¬ 0 ≤ v23) → (Q x3 σ))))))))
def wp_X6_faulty (σ : MS) (Q : Int32 → MS → Prop) : Prop := (jn (fun (x5 : Int32) (x6 : Int32) (x7 : Int32) => (jn (fun (x10 : Int32) => (((x10 = 0) → (Q (σ 5 2) σ)) ∧ ((¬ x10 = 0) → (Q ((-1)) σ)))) (fun kj9 => (((x5 = 8) → (kj9 1)) ∧ ((¬ x5 = 8) → (((¬ x5 = 1) → (((x5 = 2) → (((x6 = ((-1))) → (kj9 0)) ∧ ((¬ x6 = ((-1))) → (kj9 1)))) ∧ ((¬ x5 = 2) → (((¬ x5 = 4) → (kj9 0)) ∧ ((x5 = 4) → (((x6 = ((-1))) → (kj9 0)) ∧ ((¬ x6 = ((-1))) → (kj9 1)))))))) ∧ ((x5 = 1) → (((100 ≤ x6) → (kj9 1)) ∧ ((¬ 100 ≤ x6) → (((x5 = 2) → (((x6 = ((-1))) → (kj9 0)) ∧ ((¬ x6 = ((-1))) → (kj9 1)))) ∧ ((¬ x5 = 2) → (((¬ x5 = 4) → (kj9 0)) ∧ ((x5 = 4) → (((x6 = ((-1))) → (kj9 0)) ∧ ((¬ x6 = ((-1))) → (kj9 1)))))))))))))))) (fun kx4 => wp_X6_faulty_L6 Q kx4 σ mF 0 ((-1)) 0))
theorem sg_X6_faulty : aSig yX6_faulty 0 := by decide +kernel
set_option maxHeartbeats 4000000 in
theorem ct_X6_faulty (l : Launch) (G : aG) (a : Nat)   (σ : MS) (Q : Int32 → MS → Prop) (hw : wp_X6_faulty  σ Q) (h0 : AH) (n0 u0 : Nat) (hV : MV h0 a σ) : CT l yX6_faulty (ws_ yX6_faulty cX6_faulty 5 (some .int)) 4 G [.ref a] h0 n0 u0 0 0 (m_pi Q h0 n0 u0 a) := by
  refine CT.intro [some (.ref a), none, none, none, none] pn_RX6 rfl (Nat.le_of_ble_eq_true rfl) ?_
  intro p e s m args below meth c C hz hu
  have hs : s.heap.size = n0 ∧ slT s.heap = u0 := ⟨hz, hu⟩
  refine a_world (V1 := MW h0 n0 u0 a σ) (MW.start hV) ?_
  unfold wp_X6_faulty at hw
  refine a_iconst (pc := 0) C dX6_faulty_0 ic_0 ?_
  refine a_istore_1 (pc := 1) C dX6_faulty_1 (by decide) rfl ?_
  refine a_iconst (pc := 2) C dX6_faulty_2 ic_m1 ?_
  refine a_istore_2 (pc := 3) C dX6_faulty_3 (by decide) rfl ?_
  refine a_iconst (pc := 4) C dX6_faulty_4 ic_0 ?_
  refine a_istore_3 (pc := 5) C dX6_faulty_5 (by decide) rfl ?_
  refine jn_use hw (fun kx4 ekx4 hw => ?_)
  have hkx4 : ∀ (x5 : Int32) (x6 : Int32) (x7 : Int32), kx4 x5 x6 x7 → AW G p l e (aRm 4 0 0) s m args below meth c (a_A h0 n0) 5 (MQ below (a_Qc G (m_pi Q h0 n0 u0 a) (a_A h0 n0)) args s 0 0 (a_A h0 n0)) (MW h0 n0 u0 a σ) 92 [some (.ref a), some (.int x5), some (.int x6), some (.int x7), none] [] := by
    intro x5 x6 x7 hw
    rw [ekx4] at hw
    refine a_iload_1 (pc := 92) C dX6_faulty_92 ?_
    refine a_bipush (pc := 93) C dX6_faulty_93 bc_8 ?_
    refine jn_use hw (fun kj9 ekj9 hw => ?_)
    have hkj9 : ∀ (x10 : Int32), kj9 x10 → AW G p l e (aRm 4 0 0) s m args below meth c (a_A h0 n0) 5 (MQ below (a_Qc G (m_pi Q h0 n0 u0 a) (a_A h0 n0)) args s 0 0 (a_A h0 n0)) (MW h0 n0 u0 a σ) 129 [some (.ref a), some (.int x5), some (.int x6), some (.int x7), none] [.int x10] := by
      intro x10 hw
      rw [ekj9] at hw
      refine a_istore_3 (pc := 129) C dX6_faulty_129 (by decide) rfl ?_
      refine a_iload_3 (pc := 130) C dX6_faulty_130 ?_
      refine a_if_eq (pc := 131) C 138 dX6_faulty_131 (by decide) (fun c11 => ?_) (fun c11 => ?_)
      · have hw := hw.1 c11
        refine a_aload_0 (pc := 138) C dX6_faulty_138 ?_
        refine m_get_length (pc := 139) C q1765 dX6_faulty_139 ?_
        exact a_iret C dX6_faulty_142 (fun h n u hV => ⟨⟨(_, _), rfl, hw, hV⟩, m_end hs hV⟩)
      · have hw := hw.2 c11
        refine a_iconst (pc := 134) C dX6_faulty_134 ic_m1 ?_
        refine a_goto (pc := 135) C 142 dX6_faulty_135 (by decide) ?_
        exact a_iret C dX6_faulty_142 (fun h n u hV => ⟨⟨(_, _), rfl, hw, hV⟩, m_end hs hV⟩)
    refine a_icmp_eq (pc := 95) C 124 dX6_faulty_95 (by decide) (fun c8 => ?_) (fun c8 => ?_)
    · have hw := hw.1 c8
      refine a_iconst (pc := 124) C dX6_faulty_124 ic_1 ?_
      refine a_goto (pc := 125) C 129 dX6_faulty_125 (by decide) ?_
      exact hkj9 _ hw
    · have hw := hw.2 c8
      refine a_iload_1 (pc := 98) C dX6_faulty_98 ?_
      refine a_iconst (pc := 99) C dX6_faulty_99 ic_1 ?_
      refine a_icmp_ne (pc := 100) C 109 dX6_faulty_100 (by decide) (fun c12 => ?_) (fun c12 => ?_)
      · have hw := hw.1 c12
        refine a_iload_1 (pc := 109) C dX6_faulty_109 ?_
        refine a_iconst (pc := 110) C dX6_faulty_110 ic_2 ?_
        refine a_icmp_eq (pc := 111) C 119 dX6_faulty_111 (by decide) (fun c13 => ?_) (fun c13 => ?_)
        · have hw := hw.1 c13
          refine a_iload_2 (pc := 119) C dX6_faulty_119 ?_
          refine a_iconst (pc := 120) C dX6_faulty_120 ic_m1 ?_
          refine a_icmp_eq (pc := 121) C 128 dX6_faulty_121 (by decide) (fun c14 => ?_) (fun c14 => ?_)
          · have hw := hw.1 c14
            refine a_iconst (pc := 128) C dX6_faulty_128 ic_0 ?_
            exact hkj9 _ hw
          · have hw := hw.2 c14
            refine a_iconst (pc := 124) C dX6_faulty_124 ic_1 ?_
            refine a_goto (pc := 125) C 129 dX6_faulty_125 (by decide) ?_
            exact hkj9 _ hw
        · have hw := hw.2 c13
          refine a_iload_1 (pc := 114) C dX6_faulty_114 ?_
          refine a_iconst (pc := 115) C dX6_faulty_115 ic_4 ?_
          refine a_icmp_ne (pc := 116) C 128 dX6_faulty_116 (by decide) (fun c15 => ?_) (fun c15 => ?_)
          · have hw := hw.1 c15
            refine a_iconst (pc := 128) C dX6_faulty_128 ic_0 ?_
            exact hkj9 _ hw
          · have hw := hw.2 c15
            refine a_iload_2 (pc := 119) C dX6_faulty_119 ?_
            refine a_iconst (pc := 120) C dX6_faulty_120 ic_m1 ?_
            refine a_icmp_eq (pc := 121) C 128 dX6_faulty_121 (by decide) (fun c16 => ?_) (fun c16 => ?_)
            · have hw := hw.1 c16
              refine a_iconst (pc := 128) C dX6_faulty_128 ic_0 ?_
              exact hkj9 _ hw
            · have hw := hw.2 c16
              refine a_iconst (pc := 124) C dX6_faulty_124 ic_1 ?_
              refine a_goto (pc := 125) C 129 dX6_faulty_125 (by decide) ?_
              exact hkj9 _ hw
      · have hw := hw.2 c12
        refine a_iload_2 (pc := 103) C dX6_faulty_103 ?_
        refine a_bipush (pc := 104) C dX6_faulty_104 bc_100 ?_
        refine a_icmp_ge (pc := 106) C 124 dX6_faulty_106 (by decide) (fun c17 => ?_) (fun c17 => ?_)
        · have hw := hw.1 c17
          refine a_iconst (pc := 124) C dX6_faulty_124 ic_1 ?_
          refine a_goto (pc := 125) C 129 dX6_faulty_125 (by decide) ?_
          exact hkj9 _ hw
        · have hw := hw.2 c17
          refine a_iload_1 (pc := 109) C dX6_faulty_109 ?_
          refine a_iconst (pc := 110) C dX6_faulty_110 ic_2 ?_
          refine a_icmp_eq (pc := 111) C 119 dX6_faulty_111 (by decide) (fun c18 => ?_) (fun c18 => ?_)
          · have hw := hw.1 c18
            refine a_iload_2 (pc := 119) C dX6_faulty_119 ?_
            refine a_iconst (pc := 120) C dX6_faulty_120 ic_m1 ?_
            refine a_icmp_eq (pc := 121) C 128 dX6_faulty_121 (by decide) (fun c19 => ?_) (fun c19 => ?_)
            · have hw := hw.1 c19
              refine a_iconst (pc := 128) C dX6_faulty_128 ic_0 ?_
              exact hkj9 _ hw
            · have hw := hw.2 c19
              refine a_iconst (pc := 124) C dX6_faulty_124 ic_1 ?_
              refine a_goto (pc := 125) C 129 dX6_faulty_125 (by decide) ?_
              exact hkj9 _ hw
          · have hw := hw.2 c18
            refine a_iload_1 (pc := 114) C dX6_faulty_114 ?_
            refine a_iconst (pc := 115) C dX6_faulty_115 ic_4 ?_
            refine a_icmp_ne (pc := 116) C 128 dX6_faulty_116 (by decide) (fun c20 => ?_) (fun c20 => ?_)
            · have hw := hw.1 c20
              refine a_iconst (pc := 128) C dX6_faulty_128 ic_0 ?_
              exact hkj9 _ hw
            · have hw := hw.2 c20
              refine a_iload_2 (pc := 119) C dX6_faulty_119 ?_
              refine a_iconst (pc := 120) C dX6_faulty_120 ic_m1 ?_
              refine a_icmp_eq (pc := 121) C 128 dX6_faulty_121 (by decide) (fun c21 => ?_) (fun c21 => ?_)
              · have hw := hw.1 c21
                refine a_iconst (pc := 128) C dX6_faulty_128 ic_0 ?_
                exact hkj9 _ hw
              · have hw := hw.2 c21
                refine a_iconst (pc := 124) C dX6_faulty_124 ic_1 ?_
                refine a_goto (pc := 125) C 129 dX6_faulty_125 (by decide) ?_
                exact hkj9 _ hw
  have lp6 : ∀ (F : Nat) (x1 : Int32) (x2 : Int32) (x3 : Int32), wp_X6_faulty_L6 Q kx4 σ F x1 x2 x3 → AW G p l e (aRm 4 0 0) s m args below meth c (a_A h0 n0) 5 (MQ below (a_Qc G (m_pi Q h0 n0 u0 a) (a_A h0 n0)) args s 0 0 (a_A h0 n0)) (MW h0 n0 u0 a σ) 6 [some (.ref a), some (.int x1), some (.int x2), some (.int x3), none] [] := by
    intro F
    induction F with
    | zero => intro x1 x2 x3 hw; exact False.elim hw
    | succ F ih =>
      intro x1 x2 x3 hw
      rw [wp_X6_faulty_L6] at hw
      refine a_iload_3 (pc := 6) C dX6_faulty_6 ?_
      refine a_aload_0 (pc := 7) C dX6_faulty_7 ?_
      refine m_get_length (pc := 8) C q1765 dX6_faulty_8 ?_
      refine a_icmp_ge (pc := 11) C 92 dX6_faulty_11 (by decide) (fun c22 => ?_) (fun c22 => ?_)
      · have hw := hw.1 c22
        exact hkx4 _ _ _ hw
      · have hw := hw.2 c22
        refine a_iload_1 (pc := 14) C dX6_faulty_14 ?_
        refine a_iload_2 (pc := 15) C dX6_faulty_15 ?_
        refine a_aload_0 (pc := 16) C dX6_faulty_16 ?_
        refine m_get_buffer (pc := 17) C q1764 dX6_faulty_17 ?_
        refine a_iload_3 (pc := 20) C dX6_faulty_20 ?_
        refine m_iald (pc := 21) C (by decide) hw.1 dX6_faulty_21 ?_
        have hw := hw.2
        refine m_callS3p (pc := 22) C hs (fun h n u => ct_X6_follows l G _ _ _ _ hw h n u) (by decide) (by decide) (lw_S q2009 q2010 q77 q2011) sg_X6_follows (Nat.le_of_ble_eq_true rfl) dX6_faulty_22 (fun v23 hw => ?_)
        refine a_istore_4 (pc := 25) C dX6_faulty_25 (by decide) rfl ?_
        refine a_iload_4 (pc := 27) C dX6_faulty_27 ?_
        refine a_if_ge (pc := 29) C 34 dX6_faulty_29 (by decide) (fun c24 => ?_) (fun c24 => ?_)
        · have hw := hw.1 c24
          refine a_iload_4 (pc := 34) C dX6_faulty_34 ?_
          refine a_iload_1 (pc := 36) C dX6_faulty_36 ?_
          refine jn_use hw (fun kj26 ekj26 hw => ?_)
          have hkj26 : ∀ (x27 : Int32), kj26 x27 → AW G p l e (aRm 4 0 0) s m args below meth c (a_A h0 n0) 5 (MQ below (a_Qc G (m_pi Q h0 n0 u0 a) (a_A h0 n0)) args s 0 0 (a_A h0 n0)) (MW h0 n0 u0 a σ) 82 [some (.ref a), some (.int x1), some (.int x2), some (.int x3), some (.int v23)] [.int x27] := by
            intro x27 hw
            rw [ekj26] at hw
            refine a_istore_2 (pc := 82) C dX6_faulty_82 (by decide) rfl ?_
            refine a_iload_4 (pc := 83) C dX6_faulty_83 ?_
            refine a_istore_1 (pc := 85) C dX6_faulty_85 (by decide) rfl ?_
            refine a_iinc_3 (pc := 86) (v := 1) C dX6_faulty_86 (by decide) (by decide) rfl ?_
            refine a_goto (pc := 89) C 6 dX6_faulty_89 (by decide) ?_
            exact a_weak (a_le_some (a_le_some (a_le_some (a_le_some (a_le_none a_le_nil))))) (ih _ _ _ hw)
          refine a_icmp_ne (pc := 37) C 47 dX6_faulty_37 (by decide) (fun c25 => ?_) (fun c25 => ?_)
          · have hw := hw.1 c25
            refine a_iconst (pc := 47) C dX6_faulty_47 ic_m1 ?_
            refine a_goto (pc := 48) C 82 dX6_faulty_48 (by decide) ?_
            exact hkj26 _ hw
          · have hw := hw.2 c25
            refine a_iload_1 (pc := 40) C dX6_faulty_40 ?_
            refine m_callS1p (pc := 41) C hs (fun h n u => ct_X6_isNumber l G _ _ hw h n u) (by decide) (by decide) (lw_S q2012 q2013 q77 q2014) sg_X6_isNumber (Nat.le_of_ble_eq_true rfl) dX6_faulty_41 (fun v28 hw => ?_)
            refine a_if_ne (pc := 44) C 51 dX6_faulty_44 (by decide) (fun c29 => ?_) (fun c29 => ?_)
            · have hw := hw.1 c29
              refine a_iload_2 (pc := 51) C dX6_faulty_51 ?_
              refine a_iconst (pc := 52) C dX6_faulty_52 ic_m1 ?_
              refine a_icmp_ne (pc := 53) C 68 dX6_faulty_53 (by decide) (fun c30 => ?_) (fun c30 => ?_)
              · have hw := hw.1 c30
                refine a_bipush (pc := 68) C dX6_faulty_68 bc_10 ?_
                refine a_iload_2 (pc := 70) C dX6_faulty_70 ?_
                refine a_imul (pc := 71) C dX6_faulty_71 ?_
                refine a_aload_0 (pc := 72) C dX6_faulty_72 ?_
                refine m_get_buffer (pc := 73) C q1764 dX6_faulty_73 ?_
                refine a_iload_3 (pc := 76) C dX6_faulty_76 ?_
                refine m_iald (pc := 77) C (by decide) hw.1 dX6_faulty_77 ?_
                have hw := hw.2
                refine a_iadd (pc := 78) C dX6_faulty_78 ?_
                refine a_bipush (pc := 79) C dX6_faulty_79 bc_48 ?_
                refine a_isub (pc := 81) C dX6_faulty_81 ?_
                exact hkj26 _ hw
              · have hw := hw.2 c30
                refine a_aload_0 (pc := 56) C dX6_faulty_56 ?_
                refine m_get_buffer (pc := 57) C q1764 dX6_faulty_57 ?_
                refine a_iload_3 (pc := 60) C dX6_faulty_60 ?_
                refine m_iald (pc := 61) C (by decide) hw.1 dX6_faulty_61 ?_
                have hw := hw.2
                refine a_bipush (pc := 62) C dX6_faulty_62 bc_48 ?_
                refine a_isub (pc := 64) C dX6_faulty_64 ?_
                refine a_goto (pc := 65) C 82 dX6_faulty_65 (by decide) ?_
                exact hkj26 _ hw
            · have hw := hw.2 c29
              refine a_iconst (pc := 47) C dX6_faulty_47 ic_m1 ?_
              refine a_goto (pc := 48) C 82 dX6_faulty_48 (by decide) ?_
              exact hkj26 _ hw
        · have hw := hw.2 c24
          refine a_iload_3 (pc := 32) C dX6_faulty_32 ?_
          exact a_iret C dX6_faulty_33 (fun h n u hV => ⟨⟨(_, _), rfl, hw, hV⟩, m_end hs hV⟩)
  exact lp6 mF _ _ _ hw
def wp_X6_fault (σ : MS) (Q : Int32 → MS → Prop) : Prop := (∀ σ1 : MS, σ1 = mU σ 5 3 0 → (wp_X6_faulty σ1 (fun v3 σ2 => (Q v3 σ2))))
theorem sg_X6_fault : aSig yX6_fault 0 := by decide +kernel
set_option maxHeartbeats 4000000 in
theorem ct_X6_fault (l : Launch) (G : aG) (a : Nat)   (σ : MS) (Q : Int32 → MS → Prop) (hw : wp_X6_fault  σ Q) (h0 : AH) (n0 u0 : Nat) (hV : MV h0 a σ) : CT l yX6_fault (ws_ yX6_fault cX6_fault 1 (some .int)) 5 G [.ref a] h0 n0 u0 0 0 (m_pi Q h0 n0 u0 a) := by
  refine CT.intro [some (.ref a)] pn_RX6 rfl (Nat.le_of_ble_eq_true rfl) ?_
  intro p e s m args below meth c C hz hu
  have hs : s.heap.size = n0 ∧ slT s.heap = u0 := ⟨hz, hu⟩
  refine a_world (V1 := MW h0 n0 u0 a σ) (MW.start hV) ?_
  unfold wp_X6_fault at hw
  refine a_aload_0 (pc := 0) C dX6_fault_0 ?_
  refine a_iconst (pc := 1) C dX6_fault_1 ic_0 ?_
  refine m_put_thrown (pc := 2) C q1766 dX6_fault_2 (fun σ1 eσ1 => ?_)
  have hw := hw σ1 eσ1
  refine a_aload_0 (pc := 5) C dX6_fault_5 ?_
  refine m_callV0i (pc := 6) C hs (fun h n u hV => ct_X6_faulty l G a  _ _ hw h n u hV) (by decide) (by decide) rfl (lw_V q2005 q2007 qs59 q77 q2008) sg_X6_faulty (Nat.le_of_ble_eq_true rfl) dX6_fault_6 (fun v3 σ2 hw => ?_)
  exact a_iret C dX6_fault_9 (fun h n u hV => ⟨⟨(_, _), rfl, hw, hV⟩, m_end hs hV⟩)
def wp_X6_numberAt_L4 (kx3 : Int32 → Int32 → Prop) (σ : MS) : Nat → Int32 → Int32 → Prop
  | 0, _, _ => False
  | F + 1, x1, x2 => ((((σ 5 2) ≤ x2) → (kx3 x1 x2)) ∧ ((¬ (σ 5 2) ≤ x2) → (vp_in x2 (mLen 4) ∧ (wp_X6_isDigit (σ 4 x2.toNatClampNeg) (fun v7 => (((v7 = 0) → (kx3 x1 x2)) ∧ ((¬ v7 = 0) → (vp_in x2 (mLen 4) ∧ (∀ x9 : Int32, x9 = ((10 * x1) + (σ 4 x2.toNatClampNeg)) - 48 → (wp_X6_numberAt_L4 kx3 σ F x9 (x2 + 1)))))))))))
def wp_X6_numberAt (p1 : Int32) (σ : MS) (Q : Int32 → MS → Prop) : Prop := (jn (fun (x4 : Int32) (x5 : Int32) => (Q x4 σ)) (fun kx3 => wp_X6_numberAt_L4 kx3 σ mF 0 p1))
theorem sg_X6_numberAt : aSig yX6_numberAt 1 := by decide +kernel
set_option maxHeartbeats 4000000 in
theorem ct_X6_numberAt (l : Launch) (G : aG) (a : Nat) (p1 : Int32)  (σ : MS) (Q : Int32 → MS → Prop) (hw : wp_X6_numberAt p1 σ Q) (h0 : AH) (n0 u0 : Nat) (hV : MV h0 a σ) : CT l yX6_numberAt (ws_ yX6_numberAt cX6_numberAt 4 (some .int)) 3 G [.ref a, .int p1] h0 n0 u0 0 0 (m_pi Q h0 n0 u0 a) := by
  refine CT.intro [some (.ref a), some (.int p1), none, none] pn_RX6 rfl (Nat.le_of_ble_eq_true rfl) ?_
  intro p e s m args below meth c C hz hu
  have hs : s.heap.size = n0 ∧ slT s.heap = u0 := ⟨hz, hu⟩
  refine a_world (V1 := MW h0 n0 u0 a σ) (MW.start hV) ?_
  unfold wp_X6_numberAt at hw
  refine a_iconst (pc := 0) C dX6_numberAt_0 ic_0 ?_
  refine a_istore_2 (pc := 1) C dX6_numberAt_1 (by decide) rfl ?_
  refine a_iload_1 (pc := 2) C dX6_numberAt_2 ?_
  refine a_istore_3 (pc := 3) C dX6_numberAt_3 (by decide) rfl ?_
  refine jn_use hw (fun kx3 ekx3 hw => ?_)
  have hkx3 : ∀ (x4 : Int32) (x5 : Int32), kx3 x4 x5 → AW G p l e (aRm 3 0 0) s m args below meth c (a_A h0 n0) 4 (MQ below (a_Qc G (m_pi Q h0 n0 u0 a) (a_A h0 n0)) args s 0 0 (a_A h0 n0)) (MW h0 n0 u0 a σ) 45 [some (.ref a), some (.int p1), some (.int x4), some (.int x5)] [] := by
    intro x4 x5 hw
    rw [ekx3] at hw
    refine a_iload_2 (pc := 45) C dX6_numberAt_45 ?_
    exact a_iret C dX6_numberAt_46 (fun h n u hV => ⟨⟨(_, _), rfl, hw, hV⟩, m_end hs hV⟩)
  have lp4 : ∀ (F : Nat) (x1 : Int32) (x2 : Int32), wp_X6_numberAt_L4 kx3 σ F x1 x2 → AW G p l e (aRm 3 0 0) s m args below meth c (a_A h0 n0) 4 (MQ below (a_Qc G (m_pi Q h0 n0 u0 a) (a_A h0 n0)) args s 0 0 (a_A h0 n0)) (MW h0 n0 u0 a σ) 4 [some (.ref a), some (.int p1), some (.int x1), some (.int x2)] [] := by
    intro F
    induction F with
    | zero => intro x1 x2 hw; exact False.elim hw
    | succ F ih =>
      intro x1 x2 hw
      rw [wp_X6_numberAt_L4] at hw
      refine a_iload_3 (pc := 4) C dX6_numberAt_4 ?_
      refine a_aload_0 (pc := 5) C dX6_numberAt_5 ?_
      refine m_get_length (pc := 6) C q1765 dX6_numberAt_6 ?_
      refine a_icmp_ge (pc := 9) C 45 dX6_numberAt_9 (by decide) (fun c6 => ?_) (fun c6 => ?_)
      · have hw := hw.1 c6
        exact hkx3 _ _ hw
      · have hw := hw.2 c6
        refine a_aload_0 (pc := 12) C dX6_numberAt_12 ?_
        refine m_get_buffer (pc := 13) C q1764 dX6_numberAt_13 ?_
        refine a_iload_3 (pc := 16) C dX6_numberAt_16 ?_
        refine m_iald (pc := 17) C (by decide) hw.1 dX6_numberAt_17 ?_
        have hw := hw.2
        refine m_callS1p (pc := 18) C hs (fun h n u => ct_X6_isDigit l G _ _ hw h n u) (by decide) (by decide) (lw_S q2015 q2016 q77 q2017) sg_X6_isDigit (Nat.le_of_ble_eq_true rfl) dX6_numberAt_18 (fun v7 hw => ?_)
        refine a_if_eq (pc := 21) C 45 dX6_numberAt_21 (by decide) (fun c8 => ?_) (fun c8 => ?_)
        · have hw := hw.1 c8
          exact hkx3 _ _ hw
        · have hw := hw.2 c8
          refine a_bipush (pc := 24) C dX6_numberAt_24 bc_10 ?_
          refine a_iload_2 (pc := 26) C dX6_numberAt_26 ?_
          refine a_imul (pc := 27) C dX6_numberAt_27 ?_
          refine a_aload_0 (pc := 28) C dX6_numberAt_28 ?_
          refine m_get_buffer (pc := 29) C q1764 dX6_numberAt_29 ?_
          refine a_iload_3 (pc := 32) C dX6_numberAt_32 ?_
          refine m_iald (pc := 33) C (by decide) hw.1 dX6_numberAt_33 ?_
          have hw := hw.2
          refine a_iadd (pc := 34) C dX6_numberAt_34 ?_
          refine a_bipush (pc := 35) C dX6_numberAt_35 bc_48 ?_
          refine a_isub (pc := 37) C dX6_numberAt_37 ?_
          refine a_topi (fun x9 ex9 => ?_)
          have hw := hw x9 ex9
          refine a_istore_2 (pc := 38) C dX6_numberAt_38 (by decide) rfl ?_
          refine a_iinc_3 (pc := 39) (v := 1) C dX6_numberAt_39 (by decide) (by decide) rfl ?_
          refine a_goto (pc := 42) C 4 dX6_numberAt_42 (by decide) ?_
          exact ih _ _ hw
  exact lp4 mF _ _ hw
def wp_X6_does (p1 : Int32) (σ : MS) (Q : Int32 → MS → Prop) : Prop := (vp_in p1 (mLen 4) ∧ (∀ x1 : Int32, x1 = σ 4 p1.toNatClampNeg → (wp_X6_numberAt (p1 + 1) σ (fun v3 σ2 => (wp_X6_isLot v3 σ2 (fun v5 σ4 => (((¬ x1 = 43) → (((¬ x1 = 115) → (((¬ x1 = 100) → (((¬ x1 = 104) → (((¬ x1 = 107) → (((¬ x1 = 108) → (((¬ x1 = 112) → (((¬ x1 = 110) → (jn (fun (x16 : Int32) => (wp_X6_numberAt (p1 + 3) σ4 (fun v18 σ17 => (vp_in ((32 + (3 * v3)) + x16) (mLen 0) ∧ ∀ σ19 : MS, σ19 = mU σ17 0 ((32 + (3 * v3)) + x16).toNatClampNeg v18 → (Q 1 σ19))))) (fun kj15 => (((¬ x1 = 97) → (((¬ x1 = 119) → (kj15 2)) ∧ ((x1 = 119) → (kj15 1)))) ∧ ((x1 = 97) → (kj15 0)))))) ∧ ((x1 = 110) → (wp_X6_hours v3 σ4 (fun v22 σ21 => (Q 1 σ21)))))) ∧ ((x1 = 112) → (jn (fun (x25 : Int32) (σ26 : MS) => (((x25 = 0) → ((x25 = 0 ∨ x25 = 1) ∧ (Q x25 σ26))) ∧ ((¬ x25 = 0) → (wp_X6_wets v3 σ26 (fun σ28 => ((x25 = 0 ∨ x25 = 1) ∧ (Q x25 σ28))))))) (fun kj24 => (((v5 = 0) → (kj24 0 σ4)) ∧ ((¬ v5 = 0) → (wp_X6_noSpray v3 σ4 (fun v30 σ29 => (((¬ v30 = 0) → (kj24 0 σ29)) ∧ ((v30 = 0) → (kj24 1 σ29)))))))))))) ∧ ((x1 = 108) → (wp_X6_canLight σ4 (fun v33 σ32 => (((v33 = 0) → (vp_in 1 (mLen 0) ∧ (vp_in 1 (mLen 0) ∧ ∀ σ35 : MS, σ35 = mU σ32 0 (1 : Int32).toNatClampNeg (σ32 0 (1 : Int32).toNatClampNeg) → ((v33 = 0 ∨ v33 = 1) ∧ (Q v33 σ35))))) ∧ ((¬ v33 = 0) → (vp_in 1 (mLen 0) ∧ ∀ σ36 : MS, σ36 = mU σ32 0 (1 : Int32).toNatClampNeg 1 → ((v33 = 0 ∨ v33 = 1) ∧ (Q v33 σ36)))))))))) ∧ ((x1 = 107) → (jn (fun (x39 : Int32) (σ40 : MS) => (((x39 = 0) → ((x39 = 0 ∨ x39 = 1) ∧ (Q x39 σ40))) ∧ ((¬ x39 = 0) → (wp_X6_brings v3 4 ((-1)) σ40 (fun σ42 => ((x39 = 0 ∨ x39 = 1) ∧ (Q x39 σ42))))))) (fun kj38 => (((v5 = 0) → (kj38 0 σ4)) ∧ ((¬ v5 = 0) → (wp_X6_noLoad v3 σ4 (fun v44 σ43 => (((¬ v44 = 0) → (kj38 0 σ43)) ∧ ((v44 = 0) → (kj38 1 σ43)))))))))))) ∧ ((x1 = 104) → (jn (fun (x48 : Int32) (σ49 : MS) => (((x48 = 0) → ((x48 = 0 ∨ x48 = 1) ∧ (Q x48 σ49))) ∧ ((¬ x48 = 0) → (wp_X6_brings v3 3 ((-1)) σ49 (fun σ51 => ((x48 = 0 ∨ x48 = 1) ∧ (Q x48 σ51))))))) (fun kj47 => (((v5 = 0) → (kj47 0 σ4)) ∧ ((¬ v5 = 0) → (wp_X6_canHeap v3 σ4 (fun v53 σ52 => (((v53 = 0) → (kj47 0 σ52)) ∧ ((¬ v53 = 0) → (kj47 1 σ52)))))))))))) ∧ ((x1 = 100) → (jn (fun (x57 : Int32) => (wp_X6_numberAt (p1 + x57) σ4 (fun v59 σ58 => (jn (fun (x62 : Int32) (σ63 : MS) => (((x62 = 0) → ((x62 = 0 ∨ x62 = 1) ∧ (Q x62 σ63))) ∧ ((¬ x62 = 0) → (wp_X6_brings v3 2 v59 σ63 (fun σ65 => ((x62 = 0 ∨ x62 = 1) ∧ (Q x62 σ65))))))) (fun kj61 => (((v5 = 0) → (kj61 0 σ58)) ∧ ((¬ v5 = 0) → (wp_X6_noDrum v3 v59 σ58 (fun v67 σ66 => (((¬ v67 = 0) → (kj61 0 σ66)) ∧ ((v67 = 0) → (kj61 1 σ66)))))))))))) (fun kj56 => (((10 ≤ v3) → (kj56 4)) ∧ ((¬ 10 ≤ v3) → (kj56 3)))))))) ∧ ((x1 = 115) → (jn (fun (x71 : Int32) (σ72 : MS) => (((x71 = 0) → ((x71 = 0 ∨ x71 = 1) ∧ (Q x71 σ72))) ∧ ((¬ x71 = 0) → (wp_X6_steeps v3 σ72 (fun σ74 => ((x71 = 0 ∨ x71 = 1) ∧ (Q x71 σ74))))))) (fun kj70 => (((v5 = 0) → (kj70 0 σ4)) ∧ ((¬ v5 = 0) → (wp_X6_noSteep v3 σ4 (fun v76 σ75 => (((¬ v76 = 0) → (kj70 0 σ75)) ∧ ((v76 = 0) → (kj70 1 σ75)))))))))))) ∧ ((x1 = 43) → (vp_in 7 (mLen 0) ∧ (jn (fun (x80 : Int32) => (((x80 = 0) → ((x80 = 0 ∨ x80 = 1) ∧ (Q x80 σ4))) ∧ ((¬ x80 = 0) → (wp_X6_adds v3 σ4 (fun σ82 => ((x80 = 0 ∨ x80 = 1) ∧ (Q x80 σ82))))))) (fun kj79 => (((12 ≤ (σ4 0 (7 : Int32).toNatClampNeg)) → (kj79 0)) ∧ ((¬ 12 ≤ (σ4 0 (7 : Int32).toNatClampNeg)) → (kj79 1))))))))))))))
theorem sg_X6_does : aSig yX6_does 1 := by decide +kernel
set_option maxHeartbeats 4000000 in
theorem ct_X6_does (l : Launch) (G : aG) (a : Nat) (p1 : Int32)  (σ : MS) (Q : Int32 → MS → Prop) (hw : wp_X6_does p1 σ Q) (h0 : AH) (n0 u0 : Nat) (hV : MV h0 a σ) : CT l yX6_does (ws_ yX6_does cX6_does 7 (some .boolean)) 6 G [.ref a, .int p1] h0 n0 u0 0 0 (m_pi Q h0 n0 u0 a) := by
  refine CT.intro [some (.ref a), some (.int p1), none, none, none, none, none] pn_RX6 rfl (Nat.le_of_ble_eq_true rfl) ?_
  intro p e s m args below meth c C hz hu
  have hs : s.heap.size = n0 ∧ slT s.heap = u0 := ⟨hz, hu⟩
  refine a_world (V1 := MW h0 n0 u0 a σ) (MW.start hV) ?_
  unfold wp_X6_does at hw
  refine a_aload_0 (pc := 0) C dX6_does_0 ?_
  refine m_get_buffer (pc := 1) C q1764 dX6_does_1 ?_
  refine a_iload_1 (pc := 4) C dX6_does_4 ?_
  refine m_iald (pc := 5) C (by decide) hw.1 dX6_does_5 ?_
  have hw := hw.2
  refine a_topi (fun x1 ex1 => ?_)
  have hw := hw x1 ex1
  refine a_istore_2 (pc := 6) C dX6_does_6 (by decide) rfl ?_
  refine a_aload_0 (pc := 7) C dX6_does_7 ?_
  refine a_iload_1 (pc := 8) C dX6_does_8 ?_
  refine a_iconst (pc := 9) C dX6_does_9 ic_1 ?_
  refine a_iadd (pc := 10) C dX6_does_10 ?_
  refine m_callV1i (pc := 11) C hs (fun h n u hV => ct_X6_numberAt l G a _ _ _ hw h n u hV) (by decide) (by decide) rfl (lw_V q2029 q2031 qs61 q77 q2032) sg_X6_numberAt (Nat.le_of_ble_eq_true rfl) dX6_does_11 (fun v3 σ2 hw => ?_)
  refine a_istore_3 (pc := 14) C dX6_does_14 (by decide) rfl ?_
  refine a_aload_0 (pc := 15) C dX6_does_15 ?_
  refine a_iload_3 (pc := 16) C dX6_does_16 ?_
  refine m_callV1i (pc := 17) C hs (fun h n u hV => ct_X6_isLot l G a _ _ _ hw h n u hV) (by decide) (by decide) rfl (lw_V q1836 q1838 qs33 q77 q1839) sg_X6_isLot (Nat.le_of_ble_eq_true rfl) dX6_does_17 (fun v5 σ4 hw => ?_)
  refine a_istore_4 (pc := 20) C dX6_does_20 (by decide) rfl ?_
  refine a_iconst (pc := 22) C dX6_does_22 ic_1 ?_
  refine a_istore_5 (pc := 23) C dX6_does_23 (by decide) rfl ?_
  refine a_iload_2 (pc := 25) C dX6_does_25 ?_
  refine a_bipush (pc := 26) C dX6_does_26 bc_43 ?_
  refine a_icmp_ne (pc := 28) C 63 dX6_does_28 (by decide) (fun c6 => ?_) (fun c6 => ?_)
  · have hw := hw.1 c6
    refine a_iload_2 (pc := 63) C dX6_does_63 ?_
    refine a_bipush (pc := 64) C dX6_does_64 bc_115 ?_
    refine a_icmp_ne (pc := 66) C 102 dX6_does_66 (by decide) (fun c7 => ?_) (fun c7 => ?_)
    · have hw := hw.1 c7
      refine a_iload_2 (pc := 102) C dX6_does_102 ?_
      refine a_bipush (pc := 103) C dX6_does_103 bc_100 ?_
      refine a_icmp_ne (pc := 105) C 165 dX6_does_105 (by decide) (fun c8 => ?_) (fun c8 => ?_)
      · have hw := hw.1 c8
        refine a_iload_2 (pc := 165) C dX6_does_165 ?_
        refine a_bipush (pc := 166) C dX6_does_166 bc_104 ?_
        refine a_icmp_ne (pc := 168) C 206 dX6_does_168 (by decide) (fun c9 => ?_) (fun c9 => ?_)
        · have hw := hw.1 c9
          refine a_iload_2 (pc := 206) C dX6_does_206 ?_
          refine a_bipush (pc := 207) C dX6_does_207 bc_107 ?_
          refine a_icmp_ne (pc := 209) C 247 dX6_does_209 (by decide) (fun c10 => ?_) (fun c10 => ?_)
          · have hw := hw.1 c10
            refine a_iload_2 (pc := 247) C dX6_does_247 ?_
            refine a_bipush (pc := 248) C dX6_does_248 bc_108 ?_
            refine a_icmp_ne (pc := 250) C 283 dX6_does_250 (by decide) (fun c11 => ?_) (fun c11 => ?_)
            · have hw := hw.1 c11
              refine a_iload_2 (pc := 283) C dX6_does_283 ?_
              refine a_bipush (pc := 284) C dX6_does_284 bc_112 ?_
              refine a_icmp_ne (pc := 286) C 322 dX6_does_286 (by decide) (fun c12 => ?_) (fun c12 => ?_)
              · have hw := hw.1 c12
                refine a_iload_2 (pc := 322) C dX6_does_322 ?_
                refine a_bipush (pc := 323) C dX6_does_323 bc_110 ?_
                refine a_icmp_ne (pc := 325) C 338 dX6_does_325 (by decide) (fun c13 => ?_) (fun c13 => ?_)
                · have hw := hw.1 c13
                  refine a_aload_0 (pc := 338) C dX6_does_338 ?_
                  refine m_get_z (pc := 339) C q1758 dX6_does_339 ?_
                  refine a_bipush (pc := 342) C dX6_does_342 bc_32 ?_
                  refine a_iconst (pc := 344) C dX6_does_344 ic_3 ?_
                  refine a_iload_3 (pc := 345) C dX6_does_345 ?_
                  refine a_imul (pc := 346) C dX6_does_346 ?_
                  refine a_iadd (pc := 347) C dX6_does_347 ?_
                  refine a_iload_2 (pc := 348) C dX6_does_348 ?_
                  refine a_bipush (pc := 349) C dX6_does_349 bc_97 ?_
                  refine jn_use hw (fun kj15 ekj15 hw => ?_)
                  have hkj15 : ∀ (x16 : Int32), kj15 x16 → AW G p l e (aRm 6 0 0) s m args below meth c (a_A h0 n0) 7 (MQ below (a_Qc G (m_pi Q h0 n0 u0 a) (a_A h0 n0)) args s 0 0 (a_A h0 n0)) (MW h0 n0 u0 a σ4) 369 [some (.ref a), some (.int p1), some (.int x1), some (.int v3), some (.int v5), some (.int 1), none] [.int x16, .int (32 + (3 * v3)), .ref (a + 1 + 0)] := by
                    intro x16 hw
                    rw [ekj15] at hw
                    refine a_iadd (pc := 369) C dX6_does_369 ?_
                    refine a_aload_0 (pc := 370) C dX6_does_370 ?_
                    refine a_iload_1 (pc := 371) C dX6_does_371 ?_
                    refine a_iconst (pc := 372) C dX6_does_372 ic_3 ?_
                    refine a_iadd (pc := 373) C dX6_does_373 ?_
                    refine m_callV1i (pc := 374) C hs (fun h n u hV => ct_X6_numberAt l G a _ _ _ hw h n u hV) (by decide) (by decide) rfl (lw_V q2029 q2031 qs61 q77 q2032) sg_X6_numberAt (Nat.le_of_ble_eq_true rfl) dX6_does_374 (fun v18 σ17 hw => ?_)
                    refine m_iast (pc := 377) C (by decide) hw.1 dX6_does_377 (fun σ19 eσ19 => ?_)
                    have hw := hw.2 σ19 eσ19
                    refine a_iload_5 (pc := 378) C dX6_does_378 ?_
                    exact a_zret rfl C dX6_does_380 (fun h n u hV => ⟨⟨(_, _), rfl, hw, hV⟩, m_end hs hV⟩)
                  refine a_icmp_ne (pc := 351) C 358 dX6_does_351 (by decide) (fun c14 => ?_) (fun c14 => ?_)
                  · have hw := hw.1 c14
                    refine a_iload_2 (pc := 358) C dX6_does_358 ?_
                    refine a_bipush (pc := 359) C dX6_does_359 bc_119 ?_
                    refine a_icmp_ne (pc := 361) C 368 dX6_does_361 (by decide) (fun c20 => ?_) (fun c20 => ?_)
                    · have hw := hw.1 c20
                      refine a_iconst (pc := 368) C dX6_does_368 ic_2 ?_
                      exact hkj15 _ hw
                    · have hw := hw.2 c20
                      refine a_iconst (pc := 364) C dX6_does_364 ic_1 ?_
                      refine a_goto (pc := 365) C 369 dX6_does_365 (by decide) ?_
                      exact hkj15 _ hw
                  · have hw := hw.2 c14
                    refine a_iconst (pc := 354) C dX6_does_354 ic_0 ?_
                    refine a_goto (pc := 355) C 369 dX6_does_355 (by decide) ?_
                    exact hkj15 _ hw
                · have hw := hw.2 c13
                  refine a_aload_0 (pc := 328) C dX6_does_328 ?_
                  refine a_iload_3 (pc := 329) C dX6_does_329 ?_
                  refine m_callV1i (pc := 330) C hs (fun h n u hV => ct_X6_hours l G a _ _ _ hw h n u hV) (by decide) (by decide) rfl (lw_V q1965 q1967 qs52 q77 q1968) sg_X6_hours (Nat.le_of_ble_eq_true rfl) dX6_does_330 (fun v22 σ21 hw => ?_)
                  refine a_istore_6 (pc := 333) C dX6_does_333 (by decide) rfl ?_
                  refine a_goto (pc := 335) C 378 dX6_does_335 (by decide) ?_
                  refine a_iload_5 (pc := 378) C dX6_does_378 ?_
                  exact a_zret rfl C dX6_does_380 (fun h n u hV => ⟨⟨(_, _), rfl, hw, hV⟩, m_end hs hV⟩)
              · have hw := hw.2 c12
                refine a_iload_4 (pc := 289) C dX6_does_289 ?_
                refine jn_use hw (fun kj24 ekj24 hw => ?_)
                have hkj24 : ∀ (x25 : Int32) (σ26 : MS), kj24 x25 σ26 → AW G p l e (aRm 6 0 0) s m args below meth c (a_A h0 n0) 7 (MQ below (a_Qc G (m_pi Q h0 n0 u0 a) (a_A h0 n0)) args s 0 0 (a_A h0 n0)) (MW h0 n0 u0 a σ26) 307 [some (.ref a), some (.int p1), some (.int x1), some (.int v3), some (.int v5), some (.int 1), none] [.int x25] := by
                  intro x25 σ26 hw
                  rw [ekj24] at hw
                  refine a_istore_5 (pc := 307) C dX6_does_307 (by decide) rfl ?_
                  refine a_iload_5 (pc := 309) C dX6_does_309 ?_
                  refine a_if_eq (pc := 311) C 378 dX6_does_311 (by decide) (fun c27 => ?_) (fun c27 => ?_)
                  · have hw := hw.1 c27
                    refine a_iload_5 (pc := 378) C dX6_does_378 ?_
                    have hz := hw.1
                    have hw := hw.2
                    exact a_zret (narrow_bool hz) C dX6_does_380 (fun h n u hV => ⟨⟨(_, _), rfl, hw, hV⟩, m_end hs hV⟩)
                  · have hw := hw.2 c27
                    refine a_aload_0 (pc := 314) C dX6_does_314 ?_
                    refine a_iload_3 (pc := 315) C dX6_does_315 ?_
                    refine m_callV1v (pc := 316) C hs (fun h n u hV => ct_X6_wets l G a _ _ _ hw h n u hV) (by decide) (by decide) rfl (lw_V q1930 q1932 qs50 q77 q1933) sg_X6_wets (Nat.le_of_ble_eq_true rfl) dX6_does_316 (fun σ28 hw => ?_)
                    refine a_goto (pc := 319) C 378 dX6_does_319 (by decide) ?_
                    refine a_iload_5 (pc := 378) C dX6_does_378 ?_
                    have hz := hw.1
                    have hw := hw.2
                    exact a_zret (narrow_bool hz) C dX6_does_380 (fun h n u hV => ⟨⟨(_, _), rfl, hw, hV⟩, m_end hs hV⟩)
                refine a_if_eq (pc := 291) C 306 dX6_does_291 (by decide) (fun c23 => ?_) (fun c23 => ?_)
                · have hw := hw.1 c23
                  refine a_iconst (pc := 306) C dX6_does_306 ic_0 ?_
                  exact hkj24 _ _ hw
                · have hw := hw.2 c23
                  refine a_aload_0 (pc := 294) C dX6_does_294 ?_
                  refine a_iload_3 (pc := 295) C dX6_does_295 ?_
                  refine m_callV1i (pc := 296) C hs (fun h n u hV => ct_X6_noSpray l G a _ _ _ hw h n u hV) (by decide) (by decide) rfl (lw_V q1922 q1924 qs48 q77 q1925) sg_X6_noSpray (Nat.le_of_ble_eq_true rfl) dX6_does_296 (fun v30 σ29 hw => ?_)
                  refine a_if_ne (pc := 299) C 306 dX6_does_299 (by decide) (fun c31 => ?_) (fun c31 => ?_)
                  · have hw := hw.1 c31
                    refine a_iconst (pc := 306) C dX6_does_306 ic_0 ?_
                    exact hkj24 _ _ hw
                  · have hw := hw.2 c31
                    refine a_iconst (pc := 302) C dX6_does_302 ic_1 ?_
                    refine a_goto (pc := 303) C 307 dX6_does_303 (by decide) ?_
                    exact hkj24 _ _ hw
            · have hw := hw.2 c11
              refine a_aload_0 (pc := 253) C dX6_does_253 ?_
              refine m_callV0i (pc := 254) C hs (fun h n u hV => ct_X6_canLight l G a  _ _ hw h n u hV) (by decide) (by decide) rfl (lw_V q1914 q1916 qs47 q77 q1917) sg_X6_canLight (Nat.le_of_ble_eq_true rfl) dX6_does_254 (fun v33 σ32 hw => ?_)
              refine a_istore_5 (pc := 257) C dX6_does_257 (by decide) rfl ?_
              refine a_aload_0 (pc := 259) C dX6_does_259 ?_
              refine m_get_z (pc := 260) C q1758 dX6_does_260 ?_
              refine a_iconst (pc := 263) C dX6_does_263 ic_1 ?_
              refine a_iload_5 (pc := 264) C dX6_does_264 ?_
              refine a_if_eq (pc := 266) C 273 dX6_does_266 (by decide) (fun c34 => ?_) (fun c34 => ?_)
              · have hw := hw.1 c34
                refine a_aload_0 (pc := 273) C dX6_does_273 ?_
                refine m_get_z (pc := 274) C q1758 dX6_does_274 ?_
                refine a_iconst (pc := 277) C dX6_does_277 ic_1 ?_
                refine m_iald (pc := 278) C (by decide) hw.1 dX6_does_278 ?_
                have hw := hw.2
                refine m_iast (pc := 279) C (by decide) hw.1 dX6_does_279 (fun σ35 eσ35 => ?_)
                have hw := hw.2 σ35 eσ35
                refine a_goto (pc := 280) C 378 dX6_does_280 (by decide) ?_
                refine a_iload_5 (pc := 378) C dX6_does_378 ?_
                have hz := hw.1
                have hw := hw.2
                exact a_zret (narrow_bool hz) C dX6_does_380 (fun h n u hV => ⟨⟨(_, _), rfl, hw, hV⟩, m_end hs hV⟩)
              · have hw := hw.2 c34
                refine a_iconst (pc := 269) C dX6_does_269 ic_1 ?_
                refine a_goto (pc := 270) C 279 dX6_does_270 (by decide) ?_
                refine m_iast (pc := 279) C (by decide) hw.1 dX6_does_279 (fun σ36 eσ36 => ?_)
                have hw := hw.2 σ36 eσ36
                refine a_goto (pc := 280) C 378 dX6_does_280 (by decide) ?_
                refine a_iload_5 (pc := 378) C dX6_does_378 ?_
                have hz := hw.1
                have hw := hw.2
                exact a_zret (narrow_bool hz) C dX6_does_380 (fun h n u hV => ⟨⟨(_, _), rfl, hw, hV⟩, m_end hs hV⟩)
          · have hw := hw.2 c10
            refine a_iload_4 (pc := 212) C dX6_does_212 ?_
            refine jn_use hw (fun kj38 ekj38 hw => ?_)
            have hkj38 : ∀ (x39 : Int32) (σ40 : MS), kj38 x39 σ40 → AW G p l e (aRm 6 0 0) s m args below meth c (a_A h0 n0) 7 (MQ below (a_Qc G (m_pi Q h0 n0 u0 a) (a_A h0 n0)) args s 0 0 (a_A h0 n0)) (MW h0 n0 u0 a σ40) 230 [some (.ref a), some (.int p1), some (.int x1), some (.int v3), some (.int v5), some (.int 1), none] [.int x39] := by
              intro x39 σ40 hw
              rw [ekj38] at hw
              refine a_istore_5 (pc := 230) C dX6_does_230 (by decide) rfl ?_
              refine a_iload_5 (pc := 232) C dX6_does_232 ?_
              refine a_if_eq (pc := 234) C 378 dX6_does_234 (by decide) (fun c41 => ?_) (fun c41 => ?_)
              · have hw := hw.1 c41
                refine a_iload_5 (pc := 378) C dX6_does_378 ?_
                have hz := hw.1
                have hw := hw.2
                exact a_zret (narrow_bool hz) C dX6_does_380 (fun h n u hV => ⟨⟨(_, _), rfl, hw, hV⟩, m_end hs hV⟩)
              · have hw := hw.2 c41
                refine a_aload_0 (pc := 237) C dX6_does_237 ?_
                refine a_iload_3 (pc := 238) C dX6_does_238 ?_
                refine a_iconst (pc := 239) C dX6_does_239 ic_4 ?_
                refine a_iconst (pc := 240) C dX6_does_240 ic_m1 ?_
                refine m_callV3v (pc := 241) C hs (fun h n u hV => ct_X6_brings l G a _ _ _ _ _ hw h n u hV) (by decide) (by decide) rfl (lw_V q1856 q1858 qs38 q77 q1859) sg_X6_brings (Nat.le_of_ble_eq_true rfl) dX6_does_241 (fun σ42 hw => ?_)
                refine a_goto (pc := 244) C 378 dX6_does_244 (by decide) ?_
                refine a_iload_5 (pc := 378) C dX6_does_378 ?_
                have hz := hw.1
                have hw := hw.2
                exact a_zret (narrow_bool hz) C dX6_does_380 (fun h n u hV => ⟨⟨(_, _), rfl, hw, hV⟩, m_end hs hV⟩)
            refine a_if_eq (pc := 214) C 229 dX6_does_214 (by decide) (fun c37 => ?_) (fun c37 => ?_)
            · have hw := hw.1 c37
              refine a_iconst (pc := 229) C dX6_does_229 ic_0 ?_
              exact hkj38 _ _ hw
            · have hw := hw.2 c37
              refine a_aload_0 (pc := 217) C dX6_does_217 ?_
              refine a_iload_3 (pc := 218) C dX6_does_218 ?_
              refine m_callV1i (pc := 219) C hs (fun h n u hV => ct_X6_noLoad l G a _ _ _ hw h n u hV) (by decide) (by decide) rfl (lw_V q1898 q1900 qs44 q77 q1901) sg_X6_noLoad (Nat.le_of_ble_eq_true rfl) dX6_does_219 (fun v44 σ43 hw => ?_)
              refine a_if_ne (pc := 222) C 229 dX6_does_222 (by decide) (fun c45 => ?_) (fun c45 => ?_)
              · have hw := hw.1 c45
                refine a_iconst (pc := 229) C dX6_does_229 ic_0 ?_
                exact hkj38 _ _ hw
              · have hw := hw.2 c45
                refine a_iconst (pc := 225) C dX6_does_225 ic_1 ?_
                refine a_goto (pc := 226) C 230 dX6_does_226 (by decide) ?_
                exact hkj38 _ _ hw
        · have hw := hw.2 c9
          refine a_iload_4 (pc := 171) C dX6_does_171 ?_
          refine jn_use hw (fun kj47 ekj47 hw => ?_)
          have hkj47 : ∀ (x48 : Int32) (σ49 : MS), kj47 x48 σ49 → AW G p l e (aRm 6 0 0) s m args below meth c (a_A h0 n0) 7 (MQ below (a_Qc G (m_pi Q h0 n0 u0 a) (a_A h0 n0)) args s 0 0 (a_A h0 n0)) (MW h0 n0 u0 a σ49) 189 [some (.ref a), some (.int p1), some (.int x1), some (.int v3), some (.int v5), some (.int 1), none] [.int x48] := by
            intro x48 σ49 hw
            rw [ekj47] at hw
            refine a_istore_5 (pc := 189) C dX6_does_189 (by decide) rfl ?_
            refine a_iload_5 (pc := 191) C dX6_does_191 ?_
            refine a_if_eq (pc := 193) C 378 dX6_does_193 (by decide) (fun c50 => ?_) (fun c50 => ?_)
            · have hw := hw.1 c50
              refine a_iload_5 (pc := 378) C dX6_does_378 ?_
              have hz := hw.1
              have hw := hw.2
              exact a_zret (narrow_bool hz) C dX6_does_380 (fun h n u hV => ⟨⟨(_, _), rfl, hw, hV⟩, m_end hs hV⟩)
            · have hw := hw.2 c50
              refine a_aload_0 (pc := 196) C dX6_does_196 ?_
              refine a_iload_3 (pc := 197) C dX6_does_197 ?_
              refine a_iconst (pc := 198) C dX6_does_198 ic_3 ?_
              refine a_iconst (pc := 199) C dX6_does_199 ic_m1 ?_
              refine m_callV3v (pc := 200) C hs (fun h n u hV => ct_X6_brings l G a _ _ _ _ _ hw h n u hV) (by decide) (by decide) rfl (lw_V q1856 q1858 qs38 q77 q1859) sg_X6_brings (Nat.le_of_ble_eq_true rfl) dX6_does_200 (fun σ51 hw => ?_)
              refine a_goto (pc := 203) C 378 dX6_does_203 (by decide) ?_
              refine a_iload_5 (pc := 378) C dX6_does_378 ?_
              have hz := hw.1
              have hw := hw.2
              exact a_zret (narrow_bool hz) C dX6_does_380 (fun h n u hV => ⟨⟨(_, _), rfl, hw, hV⟩, m_end hs hV⟩)
          refine a_if_eq (pc := 173) C 188 dX6_does_173 (by decide) (fun c46 => ?_) (fun c46 => ?_)
          · have hw := hw.1 c46
            refine a_iconst (pc := 188) C dX6_does_188 ic_0 ?_
            exact hkj47 _ _ hw
          · have hw := hw.2 c46
            refine a_aload_0 (pc := 176) C dX6_does_176 ?_
            refine a_iload_3 (pc := 177) C dX6_does_177 ?_
            refine m_callV1i (pc := 178) C hs (fun h n u hV => ct_X6_canHeap l G a _ _ _ hw h n u hV) (by decide) (by decide) rfl (lw_V q1890 q1892 qs43 q77 q1893) sg_X6_canHeap (Nat.le_of_ble_eq_true rfl) dX6_does_178 (fun v53 σ52 hw => ?_)
            refine a_if_eq (pc := 181) C 188 dX6_does_181 (by decide) (fun c54 => ?_) (fun c54 => ?_)
            · have hw := hw.1 c54
              refine a_iconst (pc := 188) C dX6_does_188 ic_0 ?_
              exact hkj47 _ _ hw
            · have hw := hw.2 c54
              refine a_iconst (pc := 184) C dX6_does_184 ic_1 ?_
              refine a_goto (pc := 185) C 189 dX6_does_185 (by decide) ?_
              exact hkj47 _ _ hw
      · have hw := hw.2 c8
        refine a_aload_0 (pc := 108) C dX6_does_108 ?_
        refine a_iload_1 (pc := 109) C dX6_does_109 ?_
        refine a_iload_3 (pc := 110) C dX6_does_110 ?_
        refine a_bipush (pc := 111) C dX6_does_111 bc_10 ?_
        refine jn_use hw (fun kj56 ekj56 hw => ?_)
        have hkj56 : ∀ (x57 : Int32), kj56 x57 → AW G p l e (aRm 6 0 0) s m args below meth c (a_A h0 n0) 7 (MQ below (a_Qc G (m_pi Q h0 n0 u0 a) (a_A h0 n0)) args s 0 0 (a_A h0 n0)) (MW h0 n0 u0 a σ4) 121 [some (.ref a), some (.int p1), some (.int x1), some (.int v3), some (.int v5), some (.int 1), none] [.int x57, .int p1, .ref a] := by
          intro x57 hw
          rw [ekj56] at hw
          refine a_iadd (pc := 121) C dX6_does_121 ?_
          refine m_callV1i (pc := 122) C hs (fun h n u hV => ct_X6_numberAt l G a _ _ _ hw h n u hV) (by decide) (by decide) rfl (lw_V q2029 q2031 qs61 q77 q2032) sg_X6_numberAt (Nat.le_of_ble_eq_true rfl) dX6_does_122 (fun v59 σ58 hw => ?_)
          refine a_istore_6 (pc := 125) C dX6_does_125 (by decide) rfl ?_
          refine a_iload_4 (pc := 127) C dX6_does_127 ?_
          refine jn_use hw (fun kj61 ekj61 hw => ?_)
          have hkj61 : ∀ (x62 : Int32) (σ63 : MS), kj61 x62 σ63 → AW G p l e (aRm 6 0 0) s m args below meth c (a_A h0 n0) 7 (MQ below (a_Qc G (m_pi Q h0 n0 u0 a) (a_A h0 n0)) args s 0 0 (a_A h0 n0)) (MW h0 n0 u0 a σ63) 147 [some (.ref a), some (.int p1), some (.int x1), some (.int v3), some (.int v5), some (.int 1), some (.int v59)] [.int x62] := by
            intro x62 σ63 hw
            rw [ekj61] at hw
            refine a_istore_5 (pc := 147) C dX6_does_147 (by decide) rfl ?_
            refine a_iload_5 (pc := 149) C dX6_does_149 ?_
            refine a_if_eq (pc := 151) C 162 dX6_does_151 (by decide) (fun c64 => ?_) (fun c64 => ?_)
            · have hw := hw.1 c64
              refine a_goto (pc := 162) C 378 dX6_does_162 (by decide) ?_
              refine a_iload_5 (pc := 378) C dX6_does_378 ?_
              have hz := hw.1
              have hw := hw.2
              exact a_zret (narrow_bool hz) C dX6_does_380 (fun h n u hV => ⟨⟨(_, _), rfl, hw, hV⟩, m_end hs hV⟩)
            · have hw := hw.2 c64
              refine a_aload_0 (pc := 154) C dX6_does_154 ?_
              refine a_iload_3 (pc := 155) C dX6_does_155 ?_
              refine a_iconst (pc := 156) C dX6_does_156 ic_2 ?_
              refine a_iload_6 (pc := 157) C dX6_does_157 ?_
              refine m_callV3v (pc := 159) C hs (fun h n u hV => ct_X6_brings l G a _ _ _ _ _ hw h n u hV) (by decide) (by decide) rfl (lw_V q1856 q1858 qs38 q77 q1859) sg_X6_brings (Nat.le_of_ble_eq_true rfl) dX6_does_159 (fun σ65 hw => ?_)
              refine a_goto (pc := 162) C 378 dX6_does_162 (by decide) ?_
              refine a_iload_5 (pc := 378) C dX6_does_378 ?_
              have hz := hw.1
              have hw := hw.2
              exact a_zret (narrow_bool hz) C dX6_does_380 (fun h n u hV => ⟨⟨(_, _), rfl, hw, hV⟩, m_end hs hV⟩)
          refine a_if_eq (pc := 129) C 146 dX6_does_129 (by decide) (fun c60 => ?_) (fun c60 => ?_)
          · have hw := hw.1 c60
            refine a_iconst (pc := 146) C dX6_does_146 ic_0 ?_
            exact hkj61 _ _ hw
          · have hw := hw.2 c60
            refine a_aload_0 (pc := 132) C dX6_does_132 ?_
            refine a_iload_3 (pc := 133) C dX6_does_133 ?_
            refine a_iload_6 (pc := 134) C dX6_does_134 ?_
            refine m_callV2i (pc := 136) C hs (fun h n u hV => ct_X6_noDrum l G a _ _ _ _ hw h n u hV) (by decide) (by decide) rfl (lw_V q1874 q1876 qs40 q77 q1877) sg_X6_noDrum (Nat.le_of_ble_eq_true rfl) dX6_does_136 (fun v67 σ66 hw => ?_)
            refine a_if_ne (pc := 139) C 146 dX6_does_139 (by decide) (fun c68 => ?_) (fun c68 => ?_)
            · have hw := hw.1 c68
              refine a_iconst (pc := 146) C dX6_does_146 ic_0 ?_
              exact hkj61 _ _ hw
            · have hw := hw.2 c68
              refine a_iconst (pc := 142) C dX6_does_142 ic_1 ?_
              refine a_goto (pc := 143) C 147 dX6_does_143 (by decide) ?_
              exact hkj61 _ _ hw
        refine a_icmp_ge (pc := 113) C 120 dX6_does_113 (by decide) (fun c55 => ?_) (fun c55 => ?_)
        · have hw := hw.1 c55
          refine a_iconst (pc := 120) C dX6_does_120 ic_4 ?_
          exact hkj56 _ hw
        · have hw := hw.2 c55
          refine a_iconst (pc := 116) C dX6_does_116 ic_3 ?_
          refine a_goto (pc := 117) C 121 dX6_does_117 (by decide) ?_
          exact hkj56 _ hw
    · have hw := hw.2 c7
      refine a_iload_4 (pc := 69) C dX6_does_69 ?_
      refine jn_use hw (fun kj70 ekj70 hw => ?_)
      have hkj70 : ∀ (x71 : Int32) (σ72 : MS), kj70 x71 σ72 → AW G p l e (aRm 6 0 0) s m args below meth c (a_A h0 n0) 7 (MQ below (a_Qc G (m_pi Q h0 n0 u0 a) (a_A h0 n0)) args s 0 0 (a_A h0 n0)) (MW h0 n0 u0 a σ72) 87 [some (.ref a), some (.int p1), some (.int x1), some (.int v3), some (.int v5), some (.int 1), none] [.int x71] := by
        intro x71 σ72 hw
        rw [ekj70] at hw
        refine a_istore_5 (pc := 87) C dX6_does_87 (by decide) rfl ?_
        refine a_iload_5 (pc := 89) C dX6_does_89 ?_
        refine a_if_eq (pc := 91) C 378 dX6_does_91 (by decide) (fun c73 => ?_) (fun c73 => ?_)
        · have hw := hw.1 c73
          refine a_iload_5 (pc := 378) C dX6_does_378 ?_
          have hz := hw.1
          have hw := hw.2
          exact a_zret (narrow_bool hz) C dX6_does_380 (fun h n u hV => ⟨⟨(_, _), rfl, hw, hV⟩, m_end hs hV⟩)
        · have hw := hw.2 c73
          refine a_aload_0 (pc := 94) C dX6_does_94 ?_
          refine a_iload_3 (pc := 95) C dX6_does_95 ?_
          refine m_callV1v (pc := 96) C hs (fun h n u hV => ct_X6_steeps l G a _ _ _ hw h n u hV) (by decide) (by decide) rfl (lw_V q1852 q1854 qs37 q77 q1855) sg_X6_steeps (Nat.le_of_ble_eq_true rfl) dX6_does_96 (fun σ74 hw => ?_)
          refine a_goto (pc := 99) C 378 dX6_does_99 (by decide) ?_
          refine a_iload_5 (pc := 378) C dX6_does_378 ?_
          have hz := hw.1
          have hw := hw.2
          exact a_zret (narrow_bool hz) C dX6_does_380 (fun h n u hV => ⟨⟨(_, _), rfl, hw, hV⟩, m_end hs hV⟩)
      refine a_if_eq (pc := 71) C 86 dX6_does_71 (by decide) (fun c69 => ?_) (fun c69 => ?_)
      · have hw := hw.1 c69
        refine a_iconst (pc := 86) C dX6_does_86 ic_0 ?_
        exact hkj70 _ _ hw
      · have hw := hw.2 c69
        refine a_aload_0 (pc := 74) C dX6_does_74 ?_
        refine a_iload_3 (pc := 75) C dX6_does_75 ?_
        refine m_callV1i (pc := 76) C hs (fun h n u hV => ct_X6_noSteep l G a _ _ _ hw h n u hV) (by decide) (by decide) rfl (lw_V q1840 q1842 qs34 q77 q1843) sg_X6_noSteep (Nat.le_of_ble_eq_true rfl) dX6_does_76 (fun v76 σ75 hw => ?_)
        refine a_if_ne (pc := 79) C 86 dX6_does_79 (by decide) (fun c77 => ?_) (fun c77 => ?_)
        · have hw := hw.1 c77
          refine a_iconst (pc := 86) C dX6_does_86 ic_0 ?_
          exact hkj70 _ _ hw
        · have hw := hw.2 c77
          refine a_iconst (pc := 82) C dX6_does_82 ic_1 ?_
          refine a_goto (pc := 83) C 87 dX6_does_83 (by decide) ?_
          exact hkj70 _ _ hw
  · have hw := hw.2 c6
    refine a_aload_0 (pc := 31) C dX6_does_31 ?_
    refine m_get_z (pc := 32) C q1758 dX6_does_32 ?_
    refine a_bipush (pc := 35) C dX6_does_35 bc_7 ?_
    refine m_iald (pc := 37) C (by decide) hw.1 dX6_does_37 ?_
    have hw := hw.2
    refine a_bipush (pc := 38) C dX6_does_38 bc_12 ?_
    refine jn_use hw (fun kj79 ekj79 hw => ?_)
    have hkj79 : ∀ (x80 : Int32), kj79 x80 → AW G p l e (aRm 6 0 0) s m args below meth c (a_A h0 n0) 7 (MQ below (a_Qc G (m_pi Q h0 n0 u0 a) (a_A h0 n0)) args s 0 0 (a_A h0 n0)) (MW h0 n0 u0 a σ4) 48 [some (.ref a), some (.int p1), some (.int x1), some (.int v3), some (.int v5), some (.int 1), none] [.int x80] := by
      intro x80 hw
      rw [ekj79] at hw
      refine a_istore_5 (pc := 48) C dX6_does_48 (by decide) rfl ?_
      refine a_iload_5 (pc := 50) C dX6_does_50 ?_
      refine a_if_eq (pc := 52) C 378 dX6_does_52 (by decide) (fun c81 => ?_) (fun c81 => ?_)
      · have hw := hw.1 c81
        refine a_iload_5 (pc := 378) C dX6_does_378 ?_
        have hz := hw.1
        have hw := hw.2
        exact a_zret (narrow_bool hz) C dX6_does_380 (fun h n u hV => ⟨⟨(_, _), rfl, hw, hV⟩, m_end hs hV⟩)
      · have hw := hw.2 c81
        refine a_aload_0 (pc := 55) C dX6_does_55 ?_
        refine a_iload_3 (pc := 56) C dX6_does_56 ?_
        refine m_callV1v (pc := 57) C hs (fun h n u hV => ct_X6_adds l G a _ _ _ hw h n u hV) (by decide) (by decide) rfl (lw_V q1824 q1826 qs31 q77 q1827) sg_X6_adds (Nat.le_of_ble_eq_true rfl) dX6_does_57 (fun σ82 hw => ?_)
        refine a_goto (pc := 60) C 378 dX6_does_60 (by decide) ?_
        refine a_iload_5 (pc := 378) C dX6_does_378 ?_
        have hz := hw.1
        have hw := hw.2
        exact a_zret (narrow_bool hz) C dX6_does_380 (fun h n u hV => ⟨⟨(_, _), rfl, hw, hV⟩, m_end hs hV⟩)
    refine a_icmp_ge (pc := 40) C 47 dX6_does_40 (by decide) (fun c78 => ?_) (fun c78 => ?_)
    · have hw := hw.1 c78
      refine a_iconst (pc := 47) C dX6_does_47 ic_0 ?_
      exact hkj79 _ hw
    · have hw := hw.2 c78
      refine a_iconst (pc := 43) C dX6_does_43 ic_1 ?_
      refine a_goto (pc := 44) C 48 dX6_does_44 (by decide) ?_
      exact hkj79 _ hw
def wp_X6_run_L63 (kx27 : Int32 → Prop) (σ21 : MS) : Nat → Int32 → Prop
  | 0, _ => False
  | F + 1, x26 => ((((σ21 5 2) ≤ x26) → (kx27 x26)) ∧ ((¬ (σ21 5 2) ≤ x26) → (vp_in x26 (mLen 4) ∧ ((((σ21 4 x26.toNatClampNeg) = 44) → (kx27 x26)) ∧ ((¬ (σ21 4 x26.toNatClampNeg) = 44) → (wp_X6_run_L63 kx27 σ21 F (x26 + 1)))))))
def wp_X6_run_L33 (kx14 : Int32 → Int32 → Int32 → MS → Prop) : Nat → Int32 → Int32 → Int32 → MS → Prop
  | 0, _, _, _, _ => False
  | F + 1, x10, x11, x12, σ13 => ((((σ13 5 2) ≤ x11) → (kx14 x10 x11 x12 σ13)) ∧ ((¬ (σ13 5 2) ≤ x11) → (((x12 = 0) → (kx14 x10 x11 x12 σ13)) ∧ ((¬ x12 = 0) → (wp_X6_does x11 σ13 (fun v22 σ21 => (jn (fun (x25 : Int32) => (jn (fun (x28 : Int32) => (wp_X6_run_L33 kx14 F (x10 + x25) (x28 + 1) v22 σ21)) (fun kx27 => wp_X6_run_L63 kx27 σ21 mF x11))) (fun kj24 => (((v22 = 0) → (kj24 0)) ∧ ((¬ v22 = 0) → (kj24 1)))))))))))
def wp_X6_run (σ : MS) (Q : Int32 → MS → Prop) : Prop := (wp_X6_faulty σ (fun v2 σ1 => (jn (fun (x5 : Int32) => (wp_X6_goes x5 1 σ1 (fun v7 σ6 => (((¬ v7 = 0) → (wp_X6_record σ6 (fun σ9 => (jn (fun (x15 : Int32) (x16 : Int32) (x17 : Int32) (σ18 : MS) => (Q x15 σ18)) (fun kx14 => wp_X6_run_L33 kx14 mF 0 0 1 σ9))))) ∧ ((v7 = 0) → (Q 0 σ6)))))) (fun kj4 => (((¬ v2 = ((-1))) → (kj4 0)) ∧ ((v2 = ((-1))) → (kj4 1)))))))
theorem sg_X6_run : aSig yX6_run 0 := by decide +kernel
set_option maxHeartbeats 4000000 in
theorem ct_X6_run (l : Launch) (G : aG) (a : Nat)   (σ : MS) (Q : Int32 → MS → Prop) (hw : wp_X6_run  σ Q) (h0 : AH) (n0 u0 : Nat) (hV : MV h0 a σ) : CT l yX6_run (ws_ yX6_run cX6_run 4 (some .int)) 7 G [.ref a] h0 n0 u0 0 0 (m_pi Q h0 n0 u0 a) := by
  refine CT.intro [some (.ref a), none, none, none] pn_RX6 rfl (Nat.le_of_ble_eq_true rfl) ?_
  intro p e s m args below meth c C hz hu
  have hs : s.heap.size = n0 ∧ slT s.heap = u0 := ⟨hz, hu⟩
  refine a_world (V1 := MW h0 n0 u0 a σ) (MW.start hV) ?_
  unfold wp_X6_run at hw
  refine a_aload_0 (pc := 0) C dX6_run_0 ?_
  refine a_aload_0 (pc := 1) C dX6_run_1 ?_
  refine m_callV0i (pc := 2) C hs (fun h n u hV => ct_X6_faulty l G a  _ _ hw h n u hV) (by decide) (by decide) rfl (lw_V q2005 q2007 qs59 q77 q2008) sg_X6_faulty (Nat.le_of_ble_eq_true rfl) dX6_run_2 (fun v2 σ1 hw => ?_)
  refine a_iconst (pc := 5) C dX6_run_5 ic_m1 ?_
  refine jn_use hw (fun kj4 ekj4 hw => ?_)
  have hkj4 : ∀ (x5 : Int32), kj4 x5 → AW G p l e (aRm 7 0 0) s m args below meth c (a_A h0 n0) 4 (MQ below (a_Qc G (m_pi Q h0 n0 u0 a) (a_A h0 n0)) args s 0 0 (a_A h0 n0)) (MW h0 n0 u0 a σ1) 14 [some (.ref a), none, none, none] [.int x5, .ref a] := by
    intro x5 hw
    rw [ekj4] at hw
    refine a_iconst (pc := 14) C dX6_run_14 ic_1 ?_
    refine m_callV2i (pc := 15) C hs (fun h n u hV => ct_X6_goes l G a _ _ _ _ hw h n u hV) (by decide) (by decide) rfl (lw_V q1794 q1796 qs29 q77 q1797) sg_X6_goes (Nat.le_of_ble_eq_true rfl) dX6_run_15 (fun v7 σ6 hw => ?_)
    refine a_if_ne (pc := 18) C 23 dX6_run_18 (by decide) (fun c8 => ?_) (fun c8 => ?_)
    · have hw := hw.1 c8
      refine a_aload_0 (pc := 23) C dX6_run_23 ?_
      refine m_callV0v (pc := 24) C hs (fun h n u hV => ct_X6_record l G a  _ _ hw h n u hV) (by decide) (by decide) rfl (lw_V q1813 q1815 qs30 q77 q1816) sg_X6_record (Nat.le_of_ble_eq_true rfl) dX6_run_24 (fun σ9 hw => ?_)
      refine a_iconst (pc := 27) C dX6_run_27 ic_0 ?_
      refine a_istore_1 (pc := 28) C dX6_run_28 (by decide) rfl ?_
      refine a_iconst (pc := 29) C dX6_run_29 ic_0 ?_
      refine a_istore_2 (pc := 30) C dX6_run_30 (by decide) rfl ?_
      refine a_iconst (pc := 31) C dX6_run_31 ic_1 ?_
      refine a_istore_3 (pc := 32) C dX6_run_32 (by decide) rfl ?_
      refine jn_use hw (fun kx14 ekx14 hw => ?_)
      have hkx14 : ∀ (x15 : Int32) (x16 : Int32) (x17 : Int32) (σ18 : MS), kx14 x15 x16 x17 σ18 → AW G p l e (aRm 7 0 0) s m args below meth c (a_A h0 n0) 4 (MQ below (a_Qc G (m_pi Q h0 n0 u0 a) (a_A h0 n0)) args s 0 0 (a_A h0 n0)) (MW h0 n0 u0 a σ18) 94 [some (.ref a), some (.int x15), some (.int x16), some (.int x17)] [] := by
        intro x15 x16 x17 σ18 hw
        rw [ekx14] at hw
        refine a_iload_1 (pc := 94) C dX6_run_94 ?_
        exact a_iret C dX6_run_95 (fun h n u hV => ⟨⟨(_, _), rfl, hw, hV⟩, m_end hs hV⟩)
      have lp33 : ∀ (F : Nat) (x10 : Int32) (x11 : Int32) (x12 : Int32) (σ13 : MS), wp_X6_run_L33 kx14 F x10 x11 x12 σ13 → AW G p l e (aRm 7 0 0) s m args below meth c (a_A h0 n0) 4 (MQ below (a_Qc G (m_pi Q h0 n0 u0 a) (a_A h0 n0)) args s 0 0 (a_A h0 n0)) (MW h0 n0 u0 a σ13) 33 [some (.ref a), some (.int x10), some (.int x11), some (.int x12)] [] := by
        intro F
        induction F with
        | zero => intro x10 x11 x12 σ13 hw; exact False.elim hw
        | succ F ih =>
          intro x10 x11 x12 σ13 hw
          rw [wp_X6_run_L33] at hw
          refine a_iload_2 (pc := 33) C dX6_run_33 ?_
          refine a_aload_0 (pc := 34) C dX6_run_34 ?_
          refine m_get_length (pc := 35) C q1765 dX6_run_35 ?_
          refine a_icmp_ge (pc := 38) C 94 dX6_run_38 (by decide) (fun c19 => ?_) (fun c19 => ?_)
          · have hw := hw.1 c19
            exact hkx14 _ _ _ _ hw
          · have hw := hw.2 c19
            refine a_iload_3 (pc := 41) C dX6_run_41 ?_
            refine a_if_eq (pc := 42) C 94 dX6_run_42 (by decide) (fun c20 => ?_) (fun c20 => ?_)
            · have hw := hw.1 c20
              exact hkx14 _ _ _ _ hw
            · have hw := hw.2 c20
              refine a_aload_0 (pc := 45) C dX6_run_45 ?_
              refine a_iload_2 (pc := 46) C dX6_run_46 ?_
              refine m_callV1i (pc := 47) C hs (fun h n u hV => ct_X6_does l G a _ _ _ hw h n u hV) (by decide) (by decide) rfl (lw_V q2025 q2027 qs60 q77 q2028) sg_X6_does (Nat.le_of_ble_eq_true rfl) dX6_run_47 (fun v22 σ21 hw => ?_)
              refine a_istore_3 (pc := 50) C dX6_run_50 (by decide) rfl ?_
              refine a_iload_1 (pc := 51) C dX6_run_51 ?_
              refine a_iload_3 (pc := 52) C dX6_run_52 ?_
              refine jn_use hw (fun kj24 ekj24 hw => ?_)
              have hkj24 : ∀ (x25 : Int32), kj24 x25 → AW G p l e (aRm 7 0 0) s m args below meth c (a_A h0 n0) 4 (MQ below (a_Qc G (m_pi Q h0 n0 u0 a) (a_A h0 n0)) args s 0 0 (a_A h0 n0)) (MW h0 n0 u0 a σ21) 61 [some (.ref a), some (.int x10), some (.int x11), some (.int v22)] [.int x25, .int x10] := by
                intro x25 hw
                rw [ekj24] at hw
                refine a_iadd (pc := 61) C dX6_run_61 ?_
                refine a_istore_1 (pc := 62) C dX6_run_62 (by decide) rfl ?_
                refine jn_use hw (fun kx27 ekx27 hw => ?_)
                have hkx27 : ∀ (x28 : Int32), kx27 x28 → AW G p l e (aRm 7 0 0) s m args below meth c (a_A h0 n0) 4 (MQ below (a_Qc G (m_pi Q h0 n0 u0 a) (a_A h0 n0)) args s 0 0 (a_A h0 n0)) (MW h0 n0 u0 a σ21) 88 [some (.ref a), some (.int (x10 + x25)), some (.int x28), some (.int v22)] [] := by
                  intro x28 hw
                  rw [ekx27] at hw
                  refine a_iinc_2 (pc := 88) (v := 1) C dX6_run_88 (by decide) (by decide) rfl ?_
                  refine a_goto (pc := 91) C 33 dX6_run_91 (by decide) ?_
                  exact ih _ _ _ _ hw
                have lp63 : ∀ (F : Nat) (x26 : Int32), wp_X6_run_L63 kx27 σ21 F x26 → AW G p l e (aRm 7 0 0) s m args below meth c (a_A h0 n0) 4 (MQ below (a_Qc G (m_pi Q h0 n0 u0 a) (a_A h0 n0)) args s 0 0 (a_A h0 n0)) (MW h0 n0 u0 a σ21) 63 [some (.ref a), some (.int (x10 + x25)), some (.int x26), some (.int v22)] [] := by
                  intro F
                  induction F with
                  | zero => intro x26 hw; exact False.elim hw
                  | succ F ih =>
                    intro x26 hw
                    rw [wp_X6_run_L63] at hw
                    refine a_iload_2 (pc := 63) C dX6_run_63 ?_
                    refine a_aload_0 (pc := 64) C dX6_run_64 ?_
                    refine m_get_length (pc := 65) C q1765 dX6_run_65 ?_
                    refine a_icmp_ge (pc := 68) C 88 dX6_run_68 (by decide) (fun c29 => ?_) (fun c29 => ?_)
                    · have hw := hw.1 c29
                      exact hkx27 _ hw
                    · have hw := hw.2 c29
                      refine a_aload_0 (pc := 71) C dX6_run_71 ?_
                      refine m_get_buffer (pc := 72) C q1764 dX6_run_72 ?_
                      refine a_iload_2 (pc := 75) C dX6_run_75 ?_
                      refine m_iald (pc := 76) C (by decide) hw.1 dX6_run_76 ?_
                      have hw := hw.2
                      refine a_bipush (pc := 77) C dX6_run_77 bc_44 ?_
                      refine a_icmp_eq (pc := 79) C 88 dX6_run_79 (by decide) (fun c30 => ?_) (fun c30 => ?_)
                      · have hw := hw.1 c30
                        exact hkx27 _ hw
                      · have hw := hw.2 c30
                        refine a_iinc_2 (pc := 82) (v := 1) C dX6_run_82 (by decide) (by decide) rfl ?_
                        refine a_goto (pc := 85) C 63 dX6_run_85 (by decide) ?_
                        exact ih _ hw
                exact lp63 mF _ hw
              refine a_if_eq (pc := 53) C 60 dX6_run_53 (by decide) (fun c23 => ?_) (fun c23 => ?_)
              · have hw := hw.1 c23
                refine a_iconst (pc := 60) C dX6_run_60 ic_0 ?_
                exact hkj24 _ hw
              · have hw := hw.2 c23
                refine a_iconst (pc := 56) C dX6_run_56 ic_1 ?_
                refine a_goto (pc := 57) C 61 dX6_run_57 (by decide) ?_
                exact hkj24 _ hw
      exact lp33 mF _ _ _ _ hw
    · have hw := hw.2 c8
      refine a_iconst (pc := 21) C dX6_run_21 ic_0 ?_
      exact a_iret C dX6_run_22 (fun h n u hV => ⟨⟨(_, _), rfl, hw, hV⟩, m_end hs hV⟩)
  refine a_icmp_ne (pc := 6) C 13 dX6_run_6 (by decide) (fun c3 => ?_) (fun c3 => ?_)
  · have hw := hw.1 c3
    refine a_iconst (pc := 13) C dX6_run_13 ic_0 ?_
    exact hkj4 _ hw
  · have hw := hw.2 c3
    refine a_iconst (pc := 9) C dX6_run_9 ic_1 ?_
    refine a_goto (pc := 10) C 14 dX6_run_10 (by decide) ?_
    exact hkj4 _ hw
