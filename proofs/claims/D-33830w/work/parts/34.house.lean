set_option maxRecDepth 100000
/-! THE HOUSE's METHODS: by program -/
def wp_X2_weight (p1 : Int32) (σ : HS) (Q : Int32 → HS → Prop) : Prop := (vp_in p1 12 ∧ (vp_in p1 12 ∧ (Q ((σ.1 0 p1.toNatClampNeg) + (σ.1 1 p1.toNatClampNeg)) σ)))
theorem sg_X2_weight : aSig yX2_weight 1 := by decide +kernel
set_option maxHeartbeats 4000000 in
theorem ct_X2_weight (l : Launch) (G : aG) (a : Nat) (p1 : Int32) (σ : HS) (Q : Int32 → HS → Prop) (hw : wp_X2_weight p1 σ Q) (h0 : AH) (n0 u0 : Nat) (hV : HV h0 a σ) : CT l yX2_weight (ws_ yX2_weight cX2_weight 2 (some .int)) 1 G [.ref a, .int p1] h0 n0 u0 σ.2.2 (2 * σ.2.2) (h_pi Q h0 n0 u0 a σ.2.2) := by
  refine CT.intro [some (.ref a), some (.int p1)] pn_RX2 rfl (Nat.le_of_ble_eq_true rfl) ?_
  intro p e s m args below meth c C hz hu
  have hs : s.heap.size = n0 ∧ slT s.heap = u0 := ⟨hz, hu⟩
  refine a_world (V1 := HW h0 n0 u0 a σ.2.2 σ) (HW.start hV) ?_
  unfold wp_X2_weight at hw
  refine a_aload_0 (pc := 0) C dX2_weight_0 ?_
  refine h_get_kernels (pc := 1) C q157 dX2_weight_1 ?_
  refine a_iload_1 (pc := 4) C dX2_weight_4 ?_
  refine h_iald (pc := 5) C (by decide) hw.1 dX2_weight_5 ?_
  have hw := hw.2
  refine a_aload_0 (pc := 6) C dX2_weight_6 ?_
  refine h_get_rootlets (pc := 7) C q159 dX2_weight_7 ?_
  refine a_iload_1 (pc := 10) C dX2_weight_10 ?_
  refine h_iald (pc := 11) C (by decide) hw.1 dX2_weight_11 ?_
  have hw := hw.2
  refine a_iadd (pc := 12) C dX2_weight_12 ?_
  exact a_iret C dX2_weight_13 (fun h n u hV => ⟨⟨(_, _), rfl, hw, hV⟩, h_end hs hV⟩)
def wp_X2_weightIn_L4 (kx4 : Int32 → Int32 → HS → Prop) (p1 : Int32) : Nat → Int32 → Int32 → HS → Prop
  | 0, _, _, _ => False
  | F + 1, x1, x2, σ3 => ((((σ3.1 11 1) ≤ x2) → (kx4 x1 x2 σ3)) ∧ ((¬ (σ3.1 11 1) ≤ x2) → (vp_in x2 12 ∧ (jn (fun (x11 : Int32) (σ12 : HS) => (wp_X2_weightIn_L4 kx4 p1 F (x1 + x11) (x2 + 1) σ12)) (fun kj10 => (((¬ (σ3.1 6 x2.toNatClampNeg) = p1) → (kj10 0 σ3)) ∧ (((σ3.1 6 x2.toNatClampNeg) = p1) → (wp_X2_weight x2 σ3 (fun v14 σ13 => (kj10 v14 σ13))))))))))
def wp_X2_weightIn (p1 : Int32) (σ : HS) (Q : Int32 → HS → Prop) : Prop := (jn (fun (x5 : Int32) (x6 : Int32) (σ7 : HS) => (Q x5 σ7)) (fun kx4 => wp_X2_weightIn_L4 kx4 p1 mF 0 0 σ))
theorem sg_X2_weightIn : aSig yX2_weightIn 1 := by decide +kernel
set_option maxHeartbeats 4000000 in
theorem ct_X2_weightIn (l : Launch) (G : aG) (a : Nat) (p1 : Int32) (σ : HS) (Q : Int32 → HS → Prop) (hw : wp_X2_weightIn p1 σ Q) (h0 : AH) (n0 u0 : Nat) (hV : HV h0 a σ) : CT l yX2_weightIn (ws_ yX2_weightIn cX2_weightIn 4 (some .int)) 2 G [.ref a, .int p1] h0 n0 u0 σ.2.2 (2 * σ.2.2) (h_pi Q h0 n0 u0 a σ.2.2) := by
  refine CT.intro [some (.ref a), some (.int p1), none, none] pn_RX2 rfl (Nat.le_of_ble_eq_true rfl) ?_
  intro p e s m args below meth c C hz hu
  have hs : s.heap.size = n0 ∧ slT s.heap = u0 := ⟨hz, hu⟩
  refine a_world (V1 := HW h0 n0 u0 a σ.2.2 σ) (HW.start hV) ?_
  unfold wp_X2_weightIn at hw
  refine a_iconst (pc := 0) C dX2_weightIn_0 ic_0 ?_
  refine a_istore_2 (pc := 1) C dX2_weightIn_1 (by decide) rfl ?_
  refine a_iconst (pc := 2) C dX2_weightIn_2 ic_0 ?_
  refine a_istore_3 (pc := 3) C dX2_weightIn_3 (by decide) rfl ?_
  refine jn_use hw (fun kx4 ekx4 hw => ?_)
  have hkx4 : ∀ (x5 : Int32) (x6 : Int32) (σ7 : HS), kx4 x5 x6 σ7 → AW G p l e (aRm 2 σ.2.2 (2 * σ.2.2)) s m args below meth c (a_A h0 n0) 4 (MQ below (a_Qc G (h_pi Q h0 n0 u0 a σ.2.2) (a_A h0 n0)) args s σ.2.2 (2 * σ.2.2) (a_A h0 n0)) (HW h0 n0 u0 a σ.2.2 σ7) 40 [some (.ref a), some (.int p1), some (.int x5), some (.int x6)] [] := by
    intro x5 x6 σ7 hw
    rw [ekx4] at hw
    refine a_iload_2 (pc := 40) C dX2_weightIn_40 ?_
    exact a_iret C dX2_weightIn_41 (fun h n u hV => ⟨⟨(_, _), rfl, hw, hV⟩, h_end hs hV⟩)
  have lp4 : ∀ (F : Nat) (x1 : Int32) (x2 : Int32) (σ3 : HS), wp_X2_weightIn_L4 kx4 p1 F x1 x2 σ3 → AW G p l e (aRm 2 σ.2.2 (2 * σ.2.2)) s m args below meth c (a_A h0 n0) 4 (MQ below (a_Qc G (h_pi Q h0 n0 u0 a σ.2.2) (a_A h0 n0)) args s σ.2.2 (2 * σ.2.2) (a_A h0 n0)) (HW h0 n0 u0 a σ.2.2 σ3) 4 [some (.ref a), some (.int p1), some (.int x1), some (.int x2)] [] := by
    intro F
    induction F with
    | zero => intro x1 x2 σ3 hw; exact False.elim hw
    | succ F ih =>
      intro x1 x2 σ3 hw
      rw [wp_X2_weightIn_L4] at hw
      refine a_iload_3 (pc := 4) C dX2_weightIn_4 ?_
      refine a_aload_0 (pc := 5) C dX2_weightIn_5 ?_
      refine h_get_lots (pc := 6) C q178 dX2_weightIn_6 ?_
      refine a_icmp_ge (pc := 9) C 40 dX2_weightIn_9 (by decide) (fun c8 => ?_) (fun c8 => ?_)
      · have hw := hw.1 c8
        exact hkx4 _ _ _ hw
      · have hw := hw.2 c8
        refine a_iload_2 (pc := 12) C dX2_weightIn_12 ?_
        refine a_aload_0 (pc := 13) C dX2_weightIn_13 ?_
        refine h_get_places (pc := 14) C q169 dX2_weightIn_14 ?_
        refine a_iload_3 (pc := 17) C dX2_weightIn_17 ?_
        refine h_iald (pc := 18) C (by decide) hw.1 dX2_weightIn_18 ?_
        have hw := hw.2
        refine a_iload_1 (pc := 19) C dX2_weightIn_19 ?_
        refine jn_use hw (fun kj10 ekj10 hw => ?_)
        have hkj10 : ∀ (x11 : Int32) (σ12 : HS), kj10 x11 σ12 → AW G p l e (aRm 2 σ.2.2 (2 * σ.2.2)) s m args below meth c (a_A h0 n0) 4 (MQ below (a_Qc G (h_pi Q h0 n0 u0 a σ.2.2) (a_A h0 n0)) args s σ.2.2 (2 * σ.2.2) (a_A h0 n0)) (HW h0 n0 u0 a σ.2.2 σ12) 32 [some (.ref a), some (.int p1), some (.int x1), some (.int x2)] [.int x11, .int x1] := by
          intro x11 σ12 hw
          rw [ekj10] at hw
          refine a_iadd (pc := 32) C dX2_weightIn_32 ?_
          refine a_istore_2 (pc := 33) C dX2_weightIn_33 (by decide) rfl ?_
          refine a_iinc_3 (pc := 34) (v := 1) C dX2_weightIn_34 (by decide) (by decide) rfl ?_
          refine a_goto (pc := 37) C 4 dX2_weightIn_37 (by decide) ?_
          exact ih _ _ _ hw
        refine a_icmp_ne (pc := 20) C 31 dX2_weightIn_20 (by decide) (fun c9 => ?_) (fun c9 => ?_)
        · have hw := hw.1 c9
          refine a_iconst (pc := 31) C dX2_weightIn_31 ic_0 ?_
          exact hkj10 _ _ hw
        · have hw := hw.2 c9
          refine a_aload_0 (pc := 23) C dX2_weightIn_23 ?_
          refine a_iload_3 (pc := 24) C dX2_weightIn_24 ?_
          refine h_callV1i (pc := 25) C hs (fun h n u hV => ct_X2_weight l G a _ _ _ hw h n u hV) (by decide) (by decide) rfl (lw_V q997 q998 q999 q66 q1000) sg_X2_weight (Nat.le_of_ble_eq_true rfl) dX2_weightIn_25 (fun v14 σ13 hw => ?_)
          refine a_goto (pc := 28) C 32 dX2_weightIn_28 (by decide) ?_
          exact hkj10 _ _ hw
  exact lp4 mF _ _ _ hw
def wp_X2_set_L4 (kx3 : Int32 → Int32 → Prop) (σ : HS) (p1 : Int32) : Nat → Int32 → Int32 → Prop
  | 0, _, _ => False
  | F + 1, x1, x2 => ((((σ.1 11 1) ≤ x2) → (kx3 x1 x2)) ∧ ((¬ (σ.1 11 1) ≤ x2) → (vp_in x2 12 ∧ (jn (fun (x9 : Int32) => (wp_X2_set_L4 kx3 σ p1 F (x1 ||| x9) (x2 + 1))) (fun kj8 => (((¬ (σ.1 6 x2.toNatClampNeg) = p1) → (kj8 0)) ∧ (((σ.1 6 x2.toNatClampNeg) = p1) → (kj8 (1 <<< (x2 &&& 31))))))))))
def wp_X2_set (p1 : Int32) (σ : HS) (Q : Int32 → HS → Prop) : Prop := (jn (fun (x4 : Int32) (x5 : Int32) => (Q x4 σ)) (fun kx3 => wp_X2_set_L4 kx3 σ p1 mF 0 0))
theorem sg_X2_set : aSig yX2_set 1 := by decide +kernel
set_option maxHeartbeats 4000000 in
theorem ct_X2_set (l : Launch) (G : aG) (a : Nat) (p1 : Int32) (σ : HS) (Q : Int32 → HS → Prop) (hw : wp_X2_set p1 σ Q) (h0 : AH) (n0 u0 : Nat) (hV : HV h0 a σ) : CT l yX2_set (ws_ yX2_set cX2_set 4 (some .int)) 1 G [.ref a, .int p1] h0 n0 u0 σ.2.2 (2 * σ.2.2) (h_pi Q h0 n0 u0 a σ.2.2) := by
  refine CT.intro [some (.ref a), some (.int p1), none, none] pn_RX2 rfl (Nat.le_of_ble_eq_true rfl) ?_
  intro p e s m args below meth c C hz hu
  have hs : s.heap.size = n0 ∧ slT s.heap = u0 := ⟨hz, hu⟩
  refine a_world (V1 := HW h0 n0 u0 a σ.2.2 σ) (HW.start hV) ?_
  unfold wp_X2_set at hw
  refine a_iconst (pc := 0) C dX2_set_0 ic_0 ?_
  refine a_istore_2 (pc := 1) C dX2_set_1 (by decide) rfl ?_
  refine a_iconst (pc := 2) C dX2_set_2 ic_0 ?_
  refine a_istore_3 (pc := 3) C dX2_set_3 (by decide) rfl ?_
  refine jn_use hw (fun kx3 ekx3 hw => ?_)
  have hkx3 : ∀ (x4 : Int32) (x5 : Int32), kx3 x4 x5 → AW G p l e (aRm 1 σ.2.2 (2 * σ.2.2)) s m args below meth c (a_A h0 n0) 4 (MQ below (a_Qc G (h_pi Q h0 n0 u0 a σ.2.2) (a_A h0 n0)) args s σ.2.2 (2 * σ.2.2) (a_A h0 n0)) (HW h0 n0 u0 a σ.2.2 σ) 38 [some (.ref a), some (.int p1), some (.int x4), some (.int x5)] [] := by
    intro x4 x5 hw
    rw [ekx3] at hw
    refine a_iload_2 (pc := 38) C dX2_set_38 ?_
    exact a_iret C dX2_set_39 (fun h n u hV => ⟨⟨(_, _), rfl, hw, hV⟩, h_end hs hV⟩)
  have lp4 : ∀ (F : Nat) (x1 : Int32) (x2 : Int32), wp_X2_set_L4 kx3 σ p1 F x1 x2 → AW G p l e (aRm 1 σ.2.2 (2 * σ.2.2)) s m args below meth c (a_A h0 n0) 4 (MQ below (a_Qc G (h_pi Q h0 n0 u0 a σ.2.2) (a_A h0 n0)) args s σ.2.2 (2 * σ.2.2) (a_A h0 n0)) (HW h0 n0 u0 a σ.2.2 σ) 4 [some (.ref a), some (.int p1), some (.int x1), some (.int x2)] [] := by
    intro F
    induction F with
    | zero => intro x1 x2 hw; exact False.elim hw
    | succ F ih =>
      intro x1 x2 hw
      rw [wp_X2_set_L4] at hw
      refine a_iload_3 (pc := 4) C dX2_set_4 ?_
      refine a_aload_0 (pc := 5) C dX2_set_5 ?_
      refine h_get_lots (pc := 6) C q178 dX2_set_6 ?_
      refine a_icmp_ge (pc := 9) C 38 dX2_set_9 (by decide) (fun c6 => ?_) (fun c6 => ?_)
      · have hw := hw.1 c6
        exact hkx3 _ _ hw
      · have hw := hw.2 c6
        refine a_iload_2 (pc := 12) C dX2_set_12 ?_
        refine a_aload_0 (pc := 13) C dX2_set_13 ?_
        refine h_get_places (pc := 14) C q169 dX2_set_14 ?_
        refine a_iload_3 (pc := 17) C dX2_set_17 ?_
        refine h_iald (pc := 18) C (by decide) hw.1 dX2_set_18 ?_
        have hw := hw.2
        refine a_iload_1 (pc := 19) C dX2_set_19 ?_
        refine jn_use hw (fun kj8 ekj8 hw => ?_)
        have hkj8 : ∀ (x9 : Int32), kj8 x9 → AW G p l e (aRm 1 σ.2.2 (2 * σ.2.2)) s m args below meth c (a_A h0 n0) 4 (MQ below (a_Qc G (h_pi Q h0 n0 u0 a σ.2.2) (a_A h0 n0)) args s σ.2.2 (2 * σ.2.2) (a_A h0 n0)) (HW h0 n0 u0 a σ.2.2 σ) 30 [some (.ref a), some (.int p1), some (.int x1), some (.int x2)] [.int x9, .int x1] := by
          intro x9 hw
          rw [ekj8] at hw
          refine a_ior (pc := 30) C dX2_set_30 ?_
          refine a_istore_2 (pc := 31) C dX2_set_31 (by decide) rfl ?_
          refine a_iinc_3 (pc := 32) (v := 1) C dX2_set_32 (by decide) (by decide) rfl ?_
          refine a_goto (pc := 35) C 4 dX2_set_35 (by decide) ?_
          exact ih _ _ hw
        refine a_icmp_ne (pc := 20) C 29 dX2_set_20 (by decide) (fun c7 => ?_) (fun c7 => ?_)
        · have hw := hw.1 c7
          refine a_iconst (pc := 29) C dX2_set_29 ic_0 ?_
          exact hkj8 _ hw
        · have hw := hw.2 c7
          refine a_iconst (pc := 23) C dX2_set_23 ic_1 ?_
          refine a_iload_3 (pc := 24) C dX2_set_24 ?_
          refine a_ishl (pc := 25) C dX2_set_25 ?_
          refine a_goto (pc := 26) C 30 dX2_set_26 (by decide) ?_
          exact hkj8 _ hw
  exact lp4 mF _ _ hw
def wp_X2_steepHour (p1 : Int32) (σ : HS) (Q : HS → Prop) : Prop := (vp_in p1 12 ∧ (vp_in p1 12 ∧ (∀ v1 : Int32, v1 = iMin 46 ((σ.1 2 p1.toNatClampNeg) + 4) → (∀ v2 : Int32, v2 = iMax (σ.1 2 p1.toNatClampNeg) v1 → (vp_in p1 12 ∧ ∀ σ3 : HS, σ3 = hU σ 2 p1.toNatClampNeg v2 → (vp_in p1 12 ∧ (∀ x4 : Int32, x4 = 14 - (σ3.1 4 p1.toNatClampNeg) → (vp_in p1 12 ∧ (∀ v5 : Int32, v5 = iMin 2 x4 → (∀ v6 : Int32, v6 = iMax ((-2)) v5 → (vp_in p1 12 ∧ ∀ σ7 : HS, σ7 = hU σ3 4 p1.toNatClampNeg ((σ3.1 4 p1.toNatClampNeg) + v6) → (Q σ7))))))))))))
theorem sg_X2_steepHour : aSig yX2_steepHour 1 := by decide +kernel
set_option maxHeartbeats 4000000 in
theorem ct_X2_steepHour (l : Launch) (G : aG) (a : Nat) (p1 : Int32) (σ : HS) (Q : HS → Prop) (hw : wp_X2_steepHour p1 σ Q) (h0 : AH) (n0 u0 : Nat) (hV : HV h0 a σ) : CT l yX2_steepHour (ws_ yX2_steepHour cX2_steepHour 3 none) 2 G [.ref a, .int p1] h0 n0 u0 σ.2.2 (2 * σ.2.2) (h_pv Q h0 n0 u0 a σ.2.2) := by
  refine CT.intro [some (.ref a), some (.int p1), none] pn_RX2 rfl (Nat.le_of_ble_eq_true rfl) ?_
  intro p e s m args below meth c C hz hu
  have hs : s.heap.size = n0 ∧ slT s.heap = u0 := ⟨hz, hu⟩
  refine a_world (V1 := HW h0 n0 u0 a σ.2.2 σ) (HW.start hV) ?_
  unfold wp_X2_steepHour at hw
  refine a_aload_0 (pc := 0) C dX2_steepHour_0 ?_
  refine h_get_wets (pc := 1) C q161 dX2_steepHour_1 ?_
  refine a_iload_1 (pc := 4) C dX2_steepHour_4 ?_
  refine a_aload_0 (pc := 5) C dX2_steepHour_5 ?_
  refine h_get_wets (pc := 6) C q161 dX2_steepHour_6 ?_
  refine a_iload_1 (pc := 9) C dX2_steepHour_9 ?_
  refine h_iald (pc := 10) C (by decide) hw.1 dX2_steepHour_10 ?_
  have hw := hw.2
  refine a_bipush (pc := 11) C dX2_steepHour_11 bc_46 ?_
  refine a_aload_0 (pc := 13) C dX2_steepHour_13 ?_
  refine h_get_wets (pc := 14) C q161 dX2_steepHour_14 ?_
  refine a_iload_1 (pc := 17) C dX2_steepHour_17 ?_
  refine h_iald (pc := 18) C (by decide) hw.1 dX2_steepHour_18 ?_
  have hw := hw.2
  refine a_iconst (pc := 19) C dX2_steepHour_19 ic_4 ?_
  refine a_iadd (pc := 20) C dX2_steepHour_20 ?_
  refine a_mmin (pc := 21) C (by decide) (fun h n u hV => h_end hs hV) q1038 (Nat.le_of_ble_eq_true rfl) dX2_steepHour_21 (a_topi (fun v1 ev1 => ?_))
  have hw := hw v1 ev1
  refine a_mmax (pc := 24) C (by decide) (fun h n u hV => h_end hs hV) q1039 (Nat.le_of_ble_eq_true rfl) dX2_steepHour_24 (a_topi (fun v2 ev2 => ?_))
  have hw := hw v2 ev2
  refine h_iast (pc := 27) C (by decide) hw.1 dX2_steepHour_27 (fun σ3 eσ3 => ?_)
  have hw := hw.2 σ3 eσ3
  refine a_bipush (pc := 28) C dX2_steepHour_28 bc_14 ?_
  refine a_aload_0 (pc := 30) C dX2_steepHour_30 ?_
  refine h_get_heats (pc := 31) C q165 dX2_steepHour_31 ?_
  refine a_iload_1 (pc := 34) C dX2_steepHour_34 ?_
  refine h_iald (pc := 35) C (by decide) hw.1 dX2_steepHour_35 ?_
  have hw := hw.2
  refine a_isub (pc := 36) C dX2_steepHour_36 ?_
  refine a_topi (fun x4 ex4 => ?_)
  have hw := hw x4 ex4
  refine a_istore_2 (pc := 37) C dX2_steepHour_37 (by decide) rfl ?_
  refine a_aload_0 (pc := 38) C dX2_steepHour_38 ?_
  refine h_get_heats (pc := 39) C q165 dX2_steepHour_39 ?_
  refine a_iload_1 (pc := 42) C dX2_steepHour_42 ?_
  refine a_dup2 (pc := 43) C dX2_steepHour_43 rfl rfl ?_
  refine h_iald (pc := 44) C (by decide) hw.1 dX2_steepHour_44 ?_
  have hw := hw.2
  refine a_bipush (pc := 45) C dX2_steepHour_45 bc_m2 ?_
  refine a_iconst (pc := 47) C dX2_steepHour_47 ic_2 ?_
  refine a_iload_2 (pc := 48) C dX2_steepHour_48 ?_
  refine a_mmin (pc := 49) C (by decide) (fun h n u hV => h_end hs hV) q1038 (Nat.le_of_ble_eq_true rfl) dX2_steepHour_49 (a_topi (fun v5 ev5 => ?_))
  have hw := hw v5 ev5
  refine a_mmax (pc := 52) C (by decide) (fun h n u hV => h_end hs hV) q1039 (Nat.le_of_ble_eq_true rfl) dX2_steepHour_52 (a_topi (fun v6 ev6 => ?_))
  have hw := hw v6 ev6
  refine a_iadd (pc := 55) C dX2_steepHour_55 ?_
  refine h_iast (pc := 56) C (by decide) hw.1 dX2_steepHour_56 (fun σ7 eσ7 => ?_)
  have hw := hw.2 σ7 eσ7
  exact a_vret C dX2_steepHour_57 (fun h n u hV => ⟨⟨_, rfl, hw, hV⟩, h_end hs hV⟩)
def wp_X2_drumOf_L4 (kx3 : Int32 → Int32 → Prop) (σ : HS) (p1 : Int32) : Nat → Int32 → Int32 → Prop
  | 0, _, _ => False
  | F + 1, x1, x2 => (((4 ≤ x2) → (kx3 x1 x2)) ∧ ((¬ 4 ≤ x2) → (vp_in x2 4 ∧ ((x2.toNatClampNeg) < 4 ∧ (jn (fun (x9 : Int32) => (wp_X2_drumOf_L4 kx3 σ p1 F x9 (x2 + 1))) (fun kj8 => (((¬ (σ.1 7 (x2.toNatClampNeg)) = p1) → (kj8 x1)) ∧ (((σ.1 7 (x2.toNatClampNeg)) = p1) → (kj8 x2)))))))))
def wp_X2_drumOf (p1 : Int32) (σ : HS) (Q : Int32 → HS → Prop) : Prop := (jn (fun (x4 : Int32) (x5 : Int32) => (Q x4 σ)) (fun kx3 => wp_X2_drumOf_L4 kx3 σ p1 mF ((-1)) 0))
theorem sg_X2_drumOf : aSig yX2_drumOf 1 := by decide +kernel
set_option maxHeartbeats 4000000 in
theorem ct_X2_drumOf (l : Launch) (G : aG) (a : Nat) (p1 : Int32) (σ : HS) (Q : Int32 → HS → Prop) (hw : wp_X2_drumOf p1 σ Q) (h0 : AH) (n0 u0 : Nat) (hV : HV h0 a σ) : CT l yX2_drumOf (ws_ yX2_drumOf cX2_drumOf 4 (some .int)) 1 G [.ref a, .int p1] h0 n0 u0 σ.2.2 (2 * σ.2.2) (h_pi Q h0 n0 u0 a σ.2.2) := by
  refine CT.intro [some (.ref a), some (.int p1), none, none] pn_RX2 rfl (Nat.le_of_ble_eq_true rfl) ?_
  intro p e s m args below meth c C hz hu
  have hs : s.heap.size = n0 ∧ slT s.heap = u0 := ⟨hz, hu⟩
  refine a_world (V1 := HW h0 n0 u0 a σ.2.2 σ) (HW.start hV) ?_
  unfold wp_X2_drumOf at hw
  refine a_iconst (pc := 0) C dX2_drumOf_0 ic_m1 ?_
  refine a_istore_2 (pc := 1) C dX2_drumOf_1 (by decide) rfl ?_
  refine a_iconst (pc := 2) C dX2_drumOf_2 ic_0 ?_
  refine a_istore_3 (pc := 3) C dX2_drumOf_3 (by decide) rfl ?_
  refine jn_use hw (fun kx3 ekx3 hw => ?_)
  have hkx3 : ∀ (x4 : Int32) (x5 : Int32), kx3 x4 x5 → AW G p l e (aRm 1 σ.2.2 (2 * σ.2.2)) s m args below meth c (a_A h0 n0) 4 (MQ below (a_Qc G (h_pi Q h0 n0 u0 a σ.2.2) (a_A h0 n0)) args s σ.2.2 (2 * σ.2.2) (a_A h0 n0)) (HW h0 n0 u0 a σ.2.2 σ) 34 [some (.ref a), some (.int p1), some (.int x4), some (.int x5)] [] := by
    intro x4 x5 hw
    rw [ekx3] at hw
    refine a_iload_2 (pc := 34) C dX2_drumOf_34 ?_
    exact a_iret C dX2_drumOf_35 (fun h n u hV => ⟨⟨(_, _), rfl, hw, hV⟩, h_end hs hV⟩)
  have lp4 : ∀ (F : Nat) (x1 : Int32) (x2 : Int32), wp_X2_drumOf_L4 kx3 σ p1 F x1 x2 → AW G p l e (aRm 1 σ.2.2 (2 * σ.2.2)) s m args below meth c (a_A h0 n0) 4 (MQ below (a_Qc G (h_pi Q h0 n0 u0 a σ.2.2) (a_A h0 n0)) args s σ.2.2 (2 * σ.2.2) (a_A h0 n0)) (HW h0 n0 u0 a σ.2.2 σ) 4 [some (.ref a), some (.int p1), some (.int x1), some (.int x2)] [] := by
    intro F
    induction F with
    | zero => intro x1 x2 hw; exact False.elim hw
    | succ F ih =>
      intro x1 x2 hw
      rw [wp_X2_drumOf_L4] at hw
      refine a_iload_3 (pc := 4) C dX2_drumOf_4 ?_
      refine a_iconst (pc := 5) C dX2_drumOf_5 ic_4 ?_
      refine a_icmp_ge (pc := 6) C 34 dX2_drumOf_6 (by decide) (fun c6 => ?_) (fun c6 => ?_)
      · have hw := hw.1 c6
        exact hkx3 _ _ hw
      · have hw := hw.2 c6
        refine a_aload_0 (pc := 9) C dX2_drumOf_9 ?_
        refine h_get_drums (pc := 10) C q171 dX2_drumOf_10 ?_
        refine a_iload_3 (pc := 13) C dX2_drumOf_13 ?_
        refine h_aald (pc := 14) C hw.1 dX2_drumOf_14 ?_
        have hw := hw.2
        refine h_get_lot (pc := 15) C hw.1 q140 dX2_drumOf_15 ?_
        have hw := hw.2
        refine a_iload_1 (pc := 18) C dX2_drumOf_18 ?_
        refine jn_use hw (fun kj8 ekj8 hw => ?_)
        have hkj8 : ∀ (x9 : Int32), kj8 x9 → AW G p l e (aRm 1 σ.2.2 (2 * σ.2.2)) s m args below meth c (a_A h0 n0) 4 (MQ below (a_Qc G (h_pi Q h0 n0 u0 a σ.2.2) (a_A h0 n0)) args s σ.2.2 (2 * σ.2.2) (a_A h0 n0)) (HW h0 n0 u0 a σ.2.2 σ) 27 [some (.ref a), some (.int p1), some (.int x1), some (.int x2)] [.int x9] := by
          intro x9 hw
          rw [ekj8] at hw
          refine a_istore_2 (pc := 27) C dX2_drumOf_27 (by decide) rfl ?_
          refine a_iinc_3 (pc := 28) (v := 1) C dX2_drumOf_28 (by decide) (by decide) rfl ?_
          refine a_goto (pc := 31) C 4 dX2_drumOf_31 (by decide) ?_
          exact ih _ _ hw
        refine a_icmp_ne (pc := 19) C 26 dX2_drumOf_19 (by decide) (fun c7 => ?_) (fun c7 => ?_)
        · have hw := hw.1 c7
          refine a_iload_2 (pc := 26) C dX2_drumOf_26 ?_
          exact hkj8 _ hw
        · have hw := hw.2 c7
          refine a_iload_3 (pc := 22) C dX2_drumOf_22 ?_
          refine a_goto (pc := 23) C 27 dX2_drumOf_23 (by decide) ?_
          exact hkj8 _ hw
  exact lp4 mF _ _ hw
def wp_X2_bed (p1 : Int32) (σ : HS) (Q : Nat → HS → Prop) : Prop := (vp_in p1 12 ∧ (((¬ (σ.1 6 p1.toNatClampNeg) = 2) → (Q 0 σ)) ∧ (((σ.1 6 p1.toNatClampNeg) = 2) → (wp_X2_drumOf p1 σ (fun v3 σ2 => (vp_in v3 4 ∧ (Q (1 + v3.toNatClampNeg) σ2)))))))
theorem sg_X2_bed : aSig yX2_bed 1 := by decide +kernel
set_option maxHeartbeats 4000000 in
theorem ct_X2_bed (l : Launch) (G : aG) (a : Nat) (p1 : Int32) (σ : HS) (Q : Nat → HS → Prop) (hw : wp_X2_bed p1 σ Q) (h0 : AH) (n0 u0 : Nat) (hV : HV h0 a σ) : CT l yX2_bed (ws_ yX2_bed cX2_bed 2 (some (.object "MaltDrums$Bed"))) 2 G [.ref a, .int p1] h0 n0 u0 σ.2.2 (2 * σ.2.2) (h_pb Q h0 n0 u0 a σ.2.2) := by
  refine CT.intro [some (.ref a), some (.int p1)] pn_RX2 rfl (Nat.le_of_ble_eq_true rfl) ?_
  intro p e s m args below meth c C hz hu
  have hs : s.heap.size = n0 ∧ slT s.heap = u0 := ⟨hz, hu⟩
  refine a_world (V1 := HW h0 n0 u0 a σ.2.2 σ) (HW.start hV) ?_
  unfold wp_X2_bed at hw
  refine a_aload_0 (pc := 0) C dX2_bed_0 ?_
  refine h_get_places (pc := 1) C q169 dX2_bed_1 ?_
  refine a_iload_1 (pc := 4) C dX2_bed_4 ?_
  refine h_iald (pc := 5) C (by decide) hw.1 dX2_bed_5 ?_
  have hw := hw.2
  refine a_iconst (pc := 6) C dX2_bed_6 ic_2 ?_
  refine a_icmp_ne (pc := 7) C 23 dX2_bed_7 (by decide) (fun c1 => ?_) (fun c1 => ?_)
  · have hw := hw.1 c1
    refine a_aload_0 (pc := 23) C dX2_bed_23 ?_
    refine h_get_heap (pc := 24) C q173 dX2_bed_24 ?_
    exact a_aret (Or.inl ⟨_, rfl⟩) (Or.inr ⟨_, rfl⟩) C dX2_bed_27 (fun h n u hV => ⟨⟨(_, _), rfl, hw, hV⟩, h_end hs hV⟩)
  · have hw := hw.2 c1
    refine a_aload_0 (pc := 10) C dX2_bed_10 ?_
    refine h_get_drums (pc := 11) C q171 dX2_bed_11 ?_
    refine a_aload_0 (pc := 14) C dX2_bed_14 ?_
    refine a_iload_1 (pc := 15) C dX2_bed_15 ?_
    refine h_callV1i (pc := 16) C hs (fun h n u hV => ct_X2_drumOf l G a _ _ _ hw h n u hV) (by decide) (by decide) rfl (lw_V q1044 q1045 q1046 q66 q1047) sg_X2_drumOf (Nat.le_of_ble_eq_true rfl) dX2_bed_16 (fun v3 σ2 hw => ?_)
    refine h_aald (pc := 19) C hw.1 dX2_bed_19 ?_
    have hw := hw.2
    refine a_goto (pc := 20) C 27 dX2_bed_20 (by decide) ?_
    exact a_aret (Or.inl ⟨_, rfl⟩) (Or.inr ⟨_, rfl⟩) C dX2_bed_27 (fun h n u hV => ⟨⟨(_, _), rfl, hw, hV⟩, h_end hs hV⟩)
def wp_X2_isGrowing (p1 : Int32) (σ : HS) (Q : Int32 → HS → Prop) : Prop := (vp_in p1 12 ∧ ((((σ.1 6 p1.toNatClampNeg) = 2) → (Q 1 σ)) ∧ ((¬ (σ.1 6 p1.toNatClampNeg) = 2) → (vp_in p1 12 ∧ (((¬ (σ.1 6 p1.toNatClampNeg) = 3) → (Q 0 σ)) ∧ (((σ.1 6 p1.toNatClampNeg) = 3) → (Q 1 σ)))))))
theorem sg_X2_isGrowing : aSig yX2_isGrowing 1 := by decide +kernel
set_option maxHeartbeats 4000000 in
theorem ct_X2_isGrowing (l : Launch) (G : aG) (a : Nat) (p1 : Int32) (σ : HS) (Q : Int32 → HS → Prop) (hw : wp_X2_isGrowing p1 σ Q) (h0 : AH) (n0 u0 : Nat) (hV : HV h0 a σ) : CT l yX2_isGrowing (ws_ yX2_isGrowing cX2_isGrowing 2 (some .boolean)) 1 G [.ref a, .int p1] h0 n0 u0 σ.2.2 (2 * σ.2.2) (h_pi Q h0 n0 u0 a σ.2.2) := by
  refine CT.intro [some (.ref a), some (.int p1)] pn_RX2 rfl (Nat.le_of_ble_eq_true rfl) ?_
  intro p e s m args below meth c C hz hu
  have hs : s.heap.size = n0 ∧ slT s.heap = u0 := ⟨hz, hu⟩
  refine a_world (V1 := HW h0 n0 u0 a σ.2.2 σ) (HW.start hV) ?_
  unfold wp_X2_isGrowing at hw
  refine a_aload_0 (pc := 0) C dX2_isGrowing_0 ?_
  refine h_get_places (pc := 1) C q169 dX2_isGrowing_1 ?_
  refine a_iload_1 (pc := 4) C dX2_isGrowing_4 ?_
  refine h_iald (pc := 5) C (by decide) hw.1 dX2_isGrowing_5 ?_
  have hw := hw.2
  refine a_iconst (pc := 6) C dX2_isGrowing_6 ic_2 ?_
  refine a_icmp_eq (pc := 7) C 20 dX2_isGrowing_7 (by decide) (fun c1 => ?_) (fun c1 => ?_)
  · have hw := hw.1 c1
    refine a_iconst (pc := 20) C dX2_isGrowing_20 ic_1 ?_
    refine a_goto (pc := 21) C 25 dX2_isGrowing_21 (by decide) ?_
    exact a_zret rfl C dX2_isGrowing_25 (fun h n u hV => ⟨⟨(_, _), rfl, hw, hV⟩, h_end hs hV⟩)
  · have hw := hw.2 c1
    refine a_aload_0 (pc := 10) C dX2_isGrowing_10 ?_
    refine h_get_places (pc := 11) C q169 dX2_isGrowing_11 ?_
    refine a_iload_1 (pc := 14) C dX2_isGrowing_14 ?_
    refine h_iald (pc := 15) C (by decide) hw.1 dX2_isGrowing_15 ?_
    have hw := hw.2
    refine a_iconst (pc := 16) C dX2_isGrowing_16 ic_3 ?_
    refine a_icmp_ne (pc := 17) C 24 dX2_isGrowing_17 (by decide) (fun c2 => ?_) (fun c2 => ?_)
    · have hw := hw.1 c2
      refine a_iconst (pc := 24) C dX2_isGrowing_24 ic_0 ?_
      exact a_zret rfl C dX2_isGrowing_25 (fun h n u hV => ⟨⟨(_, _), rfl, hw, hV⟩, h_end hs hV⟩)
    · have hw := hw.2 c2
      refine a_iconst (pc := 20) C dX2_isGrowing_20 ic_1 ?_
      refine a_goto (pc := 21) C 25 dX2_isGrowing_21 (by decide) ?_
      exact a_zret rfl C dX2_isGrowing_25 (fun h n u hV => ⟨⟨(_, _), rfl, hw, hV⟩, h_end hs hV⟩)
def wp_X2_pace (p1 : Int32) (σ : HS) (Q : Int32 → HS → Prop) : Prop := (wp_X2_isGrowing p1 σ (fun v2 σ1 => (jn (fun (x5 : Int32) => (jn (fun (x8 : Int32) => (vp_in p1 12 ∧ ((((σ1.1 5 p1.toNatClampNeg) < 8) → (Q x8 σ1)) ∧ ((¬ (σ1.1 5 p1.toNatClampNeg) < 8) → (Q ((x8 + 1) / 2) σ1))))) (fun kj7 => (((x5 = 0) → (kj7 0)) ∧ ((¬ x5 = 0) → (vp_in p1 12 ∧ (kj7 (((σ1.1 2 p1.toNatClampNeg) - 25) / 5)))))))) (fun kj4 => (((v2 = 0) → (kj4 0)) ∧ ((¬ v2 = 0) → (vp_in p1 12 ∧ ((((σ1.1 2 p1.toNatClampNeg) < 30) → (kj4 0)) ∧ ((¬ (σ1.1 2 p1.toNatClampNeg) < 30) → (vp_in p1 12 ∧ (wp_X1_isWithin (σ1.1 4 p1.toNatClampNeg) 8 34 (fun v11 => (((v11 = 0) → (kj4 0)) ∧ ((¬ v11 = 0) → (vp_in p1 12 ∧ (((100 ≤ (σ1.1 3 p1.toNatClampNeg)) → (kj4 0)) ∧ ((¬ 100 ≤ (σ1.1 3 p1.toNatClampNeg)) → (kj4 1))))))))))))))))))
theorem sg_X2_pace : aSig yX2_pace 1 := by decide +kernel
set_option maxHeartbeats 4000000 in
theorem ct_X2_pace (l : Launch) (G : aG) (a : Nat) (p1 : Int32) (σ : HS) (Q : Int32 → HS → Prop) (hw : wp_X2_pace p1 σ Q) (h0 : AH) (n0 u0 : Nat) (hV : HV h0 a σ) : CT l yX2_pace (ws_ yX2_pace cX2_pace 4 (some .int)) 2 G [.ref a, .int p1] h0 n0 u0 σ.2.2 (2 * σ.2.2) (h_pi Q h0 n0 u0 a σ.2.2) := by
  refine CT.intro [some (.ref a), some (.int p1), none, none] pn_RX2 rfl (Nat.le_of_ble_eq_true rfl) ?_
  intro p e s m args below meth c C hz hu
  have hs : s.heap.size = n0 ∧ slT s.heap = u0 := ⟨hz, hu⟩
  refine a_world (V1 := HW h0 n0 u0 a σ.2.2 σ) (HW.start hV) ?_
  unfold wp_X2_pace at hw
  refine a_aload_0 (pc := 0) C dX2_pace_0 ?_
  refine a_iload_1 (pc := 1) C dX2_pace_1 ?_
  refine h_callV1i (pc := 2) C hs (fun h n u hV => ct_X2_isGrowing l G a _ _ _ hw h n u hV) (by decide) (by decide) rfl (lw_V q1056 q1057 q1058 q66 q1059) sg_X2_isGrowing (Nat.le_of_ble_eq_true rfl) dX2_pace_2 (fun v2 σ1 hw => ?_)
  refine jn_use hw (fun kj4 ekj4 hw => ?_)
  have hkj4 : ∀ (x5 : Int32), kj4 x5 → AW G p l e (aRm 2 σ.2.2 (2 * σ.2.2)) s m args below meth c (a_A h0 n0) 4 (MQ below (a_Qc G (h_pi Q h0 n0 u0 a σ.2.2) (a_A h0 n0)) args s σ.2.2 (2 * σ.2.2) (a_A h0 n0)) (HW h0 n0 u0 a σ.2.2 σ1) 51 [some (.ref a), some (.int p1), none, none] [.int x5] := by
    intro x5 hw
    rw [ekj4] at hw
    refine a_istore_2 (pc := 51) C dX2_pace_51 (by decide) rfl ?_
    refine a_iload_2 (pc := 52) C dX2_pace_52 ?_
    refine jn_use hw (fun kj7 ekj7 hw => ?_)
    have hkj7 : ∀ (x8 : Int32), kj7 x8 → AW G p l e (aRm 2 σ.2.2 (2 * σ.2.2)) s m args below meth c (a_A h0 n0) 4 (MQ below (a_Qc G (h_pi Q h0 n0 u0 a σ.2.2) (a_A h0 n0)) args s σ.2.2 (2 * σ.2.2) (a_A h0 n0)) (HW h0 n0 u0 a σ.2.2 σ1) 71 [some (.ref a), some (.int p1), some (.int x5), none] [.int x8] := by
      intro x8 hw
      rw [ekj7] at hw
      refine a_istore_3 (pc := 71) C dX2_pace_71 (by decide) rfl ?_
      refine a_aload_0 (pc := 72) C dX2_pace_72 ?_
      refine h_get_felts (pc := 73) C q167 dX2_pace_73 ?_
      refine a_iload_1 (pc := 76) C dX2_pace_76 ?_
      refine h_iald (pc := 77) C (by decide) hw.1 dX2_pace_77 ?_
      have hw := hw.2
      refine a_bipush (pc := 78) C dX2_pace_78 bc_8 ?_
      refine a_icmp_lt (pc := 80) C 91 dX2_pace_80 (by decide) (fun c9 => ?_) (fun c9 => ?_)
      · have hw := hw.1 c9
        refine a_iload_3 (pc := 91) C dX2_pace_91 ?_
        exact a_iret C dX2_pace_92 (fun h n u hV => ⟨⟨(_, _), rfl, hw, hV⟩, h_end hs hV⟩)
      · have hw := hw.2 c9
        refine a_iload_3 (pc := 83) C dX2_pace_83 ?_
        refine a_iconst (pc := 84) C dX2_pace_84 ic_1 ?_
        refine a_iadd (pc := 85) C dX2_pace_85 ?_
        refine a_iconst (pc := 86) C dX2_pace_86 ic_2 ?_
        refine a_idiv (pc := 87) C dX2_pace_87 (by decide) ?_
        refine a_goto (pc := 88) C 92 dX2_pace_88 (by decide) ?_
        exact a_iret C dX2_pace_92 (fun h n u hV => ⟨⟨(_, _), rfl, hw, hV⟩, h_end hs hV⟩)
    refine a_if_eq (pc := 53) C 70 dX2_pace_53 (by decide) (fun c6 => ?_) (fun c6 => ?_)
    · have hw := hw.1 c6
      refine a_iconst (pc := 70) C dX2_pace_70 ic_0 ?_
      exact hkj7 _ hw
    · have hw := hw.2 c6
      refine a_aload_0 (pc := 56) C dX2_pace_56 ?_
      refine h_get_wets (pc := 57) C q161 dX2_pace_57 ?_
      refine a_iload_1 (pc := 60) C dX2_pace_60 ?_
      refine h_iald (pc := 61) C (by decide) hw.1 dX2_pace_61 ?_
      have hw := hw.2
      refine a_bipush (pc := 62) C dX2_pace_62 bc_25 ?_
      refine a_isub (pc := 64) C dX2_pace_64 ?_
      refine a_iconst (pc := 65) C dX2_pace_65 ic_5 ?_
      refine a_idiv (pc := 66) C dX2_pace_66 (by decide) ?_
      refine a_goto (pc := 67) C 71 dX2_pace_67 (by decide) ?_
      exact hkj7 _ hw
  refine a_if_eq (pc := 5) C 50 dX2_pace_5 (by decide) (fun c3 => ?_) (fun c3 => ?_)
  · have hw := hw.1 c3
    refine a_iconst (pc := 50) C dX2_pace_50 ic_0 ?_
    exact hkj4 _ hw
  · have hw := hw.2 c3
    refine a_aload_0 (pc := 8) C dX2_pace_8 ?_
    refine h_get_wets (pc := 9) C q161 dX2_pace_9 ?_
    refine a_iload_1 (pc := 12) C dX2_pace_12 ?_
    refine h_iald (pc := 13) C (by decide) hw.1 dX2_pace_13 ?_
    have hw := hw.2
    refine a_bipush (pc := 14) C dX2_pace_14 bc_30 ?_
    refine a_icmp_lt (pc := 16) C 50 dX2_pace_16 (by decide) (fun c10 => ?_) (fun c10 => ?_)
    · have hw := hw.1 c10
      refine a_iconst (pc := 50) C dX2_pace_50 ic_0 ?_
      exact hkj4 _ hw
    · have hw := hw.2 c10
      refine a_aload_0 (pc := 19) C dX2_pace_19 ?_
      refine h_get_heats (pc := 20) C q165 dX2_pace_20 ?_
      refine a_iload_1 (pc := 23) C dX2_pace_23 ?_
      refine h_iald (pc := 24) C (by decide) hw.1 dX2_pace_24 ?_
      have hw := hw.2
      refine a_bipush (pc := 25) C dX2_pace_25 bc_8 ?_
      refine a_bipush (pc := 27) C dX2_pace_27 bc_34 ?_
      refine h_callN3p (pc := 29) C hs (fun h n u => ct_X1_isWithin l G _ _ _ _ hw h n u) (by decide) (by decide) q1060 q856 q65 (lw_meth q857) sg_X1_isWithin (Nat.le_of_ble_eq_true rfl) dX2_pace_29 (fun v11 hw => ?_)
      refine a_if_eq (pc := 32) C 50 dX2_pace_32 (by decide) (fun c12 => ?_) (fun c12 => ?_)
      · have hw := hw.1 c12
        refine a_iconst (pc := 50) C dX2_pace_50 ic_0 ?_
        exact hkj4 _ hw
      · have hw := hw.2 c12
        refine a_aload_0 (pc := 35) C dX2_pace_35 ?_
        refine h_get_growths (pc := 36) C q163 dX2_pace_36 ?_
        refine a_iload_1 (pc := 39) C dX2_pace_39 ?_
        refine h_iald (pc := 40) C (by decide) hw.1 dX2_pace_40 ?_
        have hw := hw.2
        refine a_bipush (pc := 41) C dX2_pace_41 bc_100 ?_
        refine a_icmp_ge (pc := 43) C 50 dX2_pace_43 (by decide) (fun c13 => ?_) (fun c13 => ?_)
        · have hw := hw.1 c13
          refine a_iconst (pc := 50) C dX2_pace_50 ic_0 ?_
          exact hkj4 _ hw
        · have hw := hw.2 c13
          refine a_iconst (pc := 46) C dX2_pace_46 ic_1 ?_
          refine a_goto (pc := 47) C 51 dX2_pace_47 (by decide) ?_
          exact hkj4 _ hw
def wp_X2_growHour (p1 : Int32) (p2 : Nat) (σ : HS) (Q : Int32 → HS → Prop) : Prop := (wp_X2_pace p1 σ (fun v2 σ1 => (vp_in p1 12 ∧ (jn (fun (x5 : Int32) => (vp_in p1 12 ∧ (∀ v6 : Int32, v6 = iMin 100 ((σ1.1 3 p1.toNatClampNeg) + v2) → (vp_in p1 12 ∧ ∀ σ7 : HS, σ7 = hU σ1 3 p1.toNatClampNeg v6 → (vp_in p1 12 ∧ (∀ x8 : Int32, x8 = ((σ7.1 0 p1.toNatClampNeg) * v2) / 800 → (vp_in p1 12 ∧ (∀ x9 : Int32, x9 = ((σ7.1 0 p1.toNatClampNeg) * v2) / 300 → (vp_in p1 12 ∧ (vp_in p1 12 ∧ ∀ σ10 : HS, σ10 = hU σ7 0 p1.toNatClampNeg ((σ7.1 0 p1.toNatClampNeg) - (x8 + x9)) → (vp_in p1 12 ∧ (vp_in p1 12 ∧ ∀ σ11 : HS, σ11 = hU σ10 1 p1.toNatClampNeg ((σ10.1 1 p1.toNatClampNeg) + x9) → (∀ σ12 : HS, σ12 = hU σ11 11 10 ((σ11.1 11 10) + x8) → (p2 < 5 ∧ (p2 < 5 ∧ (∀ v13 : Int32, v13 = iMax 0 ((hAir σ12 p2) - (hDew σ12 p2)) → (jn (fun (x16 : Int32) => (vp_in p1 12 ∧ ∀ σ17 : HS, σ17 = hU σ12 2 p1.toNatClampNeg x16 → (jn (fun (x20 : Int32) => (p2 < 5 ∧ (jn (fun (x23 : Int32) => (∀ x24 : Int32, x24 = (v2 + x20) + x23 → (vp_in p1 12 ∧ (p2 < 5 ∧ (p2 < 5 ∧ (∀ v25 : Int32, v25 = iMax 10 ((((σ17.1 4 p1.toNatClampNeg) + x24) - (2 * (hAir σ17 p2))) - (hTurn σ17 p2)) → (vp_in p1 12 ∧ ∀ σ26 : HS, σ26 = hU σ17 4 p1.toNatClampNeg v25 → (p2 < 5 ∧ (jn (fun (x29 : Int32) => (vp_in p1 12 ∧ ∀ σ30 : HS, σ30 = hU σ26 5 p1.toNatClampNeg x29 → (vp_in p1 12 ∧ ((((σ30.1 4 p1.toNatClampNeg) ≤ 42) → (Q 0 σ30)) ∧ ((¬ (σ30.1 4 p1.toNatClampNeg) ≤ 42) → (Q 1 σ30)))))) (fun kj28 => ((((hTurn σ26 p2) ≤ 0) → (vp_in p1 12 ∧ (∀ v32 : Int32, v32 = iMin 20 ((σ26.1 5 p1.toNatClampNeg) + 1) → (kj28 v32)))) ∧ ((¬ (hTurn σ26 p2) ≤ 0) → (vp_in p1 12 ∧ (p2 < 5 ∧ (∀ v33 : Int32, v33 = iMax 0 ((σ26.1 5 p1.toNatClampNeg) - (3 * (hTurn σ26 p2))) → (kj28 v33)))))))))))))))) (fun kj22 => ((((hIsHeap p2) = 0) → (kj22 0)) ∧ ((¬ (hIsHeap p2) = 0) → (kj22 1))))))) (fun kj19 => (((x5 = 0) → (kj19 0)) ∧ ((¬ x5 = 0) → (kj19 1))))))) (fun kj15 => (((¬ v13 = 0) → (vp_in p1 12 ∧ (∀ v34 : Int32, v34 = iMax 12 ((σ12.1 2 p1.toNatClampNeg) - v13) → (kj15 v34)))) ∧ ((v13 = 0) → (vp_in p1 12 ∧ (kj15 (σ12.1 2 p1.toNatClampNeg))))))))))))))))))))))) (fun kj4 => ((((σ1.1 5 p1.toNatClampNeg) < 8) → (kj4 0)) ∧ ((¬ (σ1.1 5 p1.toNatClampNeg) < 8) → (kj4 1))))))))
theorem sg_X2_growHour : aSig yX2_growHour 2 := by decide +kernel
set_option maxHeartbeats 4000000 in
theorem ct_X2_growHour (l : Launch) (G : aG) (a : Nat) (p1 : Int32) (p2 : Nat) (σ : HS) (Q : Int32 → HS → Prop) (hw : wp_X2_growHour p1 p2 σ Q) (h0 : AH) (n0 u0 : Nat) (hV : HV h0 a σ) : CT l yX2_growHour (ws_ yX2_growHour cX2_growHour 9 (some .boolean)) 3 G [.ref a, .int p1, .ref (a + 9 + p2)] h0 n0 u0 σ.2.2 (2 * σ.2.2) (h_pi Q h0 n0 u0 a σ.2.2) := by
  refine CT.intro [some (.ref a), some (.int p1), some (.ref (a + 9 + p2)), none, none, none, none, none, none] pn_RX2 rfl (Nat.le_of_ble_eq_true rfl) ?_
  intro p e s m args below meth c C hz hu
  have hs : s.heap.size = n0 ∧ slT s.heap = u0 := ⟨hz, hu⟩
  refine a_world (V1 := HW h0 n0 u0 a σ.2.2 σ) (HW.start hV) ?_
  unfold wp_X2_growHour at hw
  refine a_aload_0 (pc := 0) C dX2_growHour_0 ?_
  refine a_iload_1 (pc := 1) C dX2_growHour_1 ?_
  refine h_callV1i (pc := 2) C hs (fun h n u hV => ct_X2_pace l G a _ _ _ hw h n u hV) (by decide) (by decide) rfl (lw_V q1052 q1053 q1054 q66 q1055) sg_X2_pace (Nat.le_of_ble_eq_true rfl) dX2_growHour_2 (fun v2 σ1 hw => ?_)
  refine a_istore_3 (pc := 5) C dX2_growHour_5 (by decide) rfl ?_
  refine a_aload_0 (pc := 6) C dX2_growHour_6 ?_
  refine h_get_felts (pc := 7) C q167 dX2_growHour_7 ?_
  refine a_iload_1 (pc := 10) C dX2_growHour_10 ?_
  refine h_iald (pc := 11) C (by decide) hw.1 dX2_growHour_11 ?_
  have hw := hw.2
  refine a_bipush (pc := 12) C dX2_growHour_12 bc_8 ?_
  refine jn_use hw (fun kj4 ekj4 hw => ?_)
  have hkj4 : ∀ (x5 : Int32), kj4 x5 → AW G p l e (aRm 3 σ.2.2 (2 * σ.2.2)) s m args below meth c (a_A h0 n0) 9 (MQ below (a_Qc G (h_pi Q h0 n0 u0 a σ.2.2) (a_A h0 n0)) args s σ.2.2 (2 * σ.2.2) (a_A h0 n0)) (HW h0 n0 u0 a σ.2.2 σ1) 22 [some (.ref a), some (.int p1), some (.ref (a + 9 + p2)), some (.int v2), none, none, none, none, none] [.int x5] := by
    intro x5 hw
    rw [ekj4] at hw
    refine a_istore_4 (pc := 22) C dX2_growHour_22 (by decide) rfl ?_
    refine a_aload_0 (pc := 24) C dX2_growHour_24 ?_
    refine h_get_growths (pc := 25) C q163 dX2_growHour_25 ?_
    refine a_iload_1 (pc := 28) C dX2_growHour_28 ?_
    refine a_bipush (pc := 29) C dX2_growHour_29 bc_100 ?_
    refine a_aload_0 (pc := 31) C dX2_growHour_31 ?_
    refine h_get_growths (pc := 32) C q163 dX2_growHour_32 ?_
    refine a_iload_1 (pc := 35) C dX2_growHour_35 ?_
    refine h_iald (pc := 36) C (by decide) hw.1 dX2_growHour_36 ?_
    have hw := hw.2
    refine a_iload_3 (pc := 37) C dX2_growHour_37 ?_
    refine a_iadd (pc := 38) C dX2_growHour_38 ?_
    refine a_mmin (pc := 39) C (by decide) (fun h n u hV => h_end hs hV) q1038 (Nat.le_of_ble_eq_true rfl) dX2_growHour_39 (a_topi (fun v6 ev6 => ?_))
    have hw := hw v6 ev6
    refine h_iast (pc := 42) C (by decide) hw.1 dX2_growHour_42 (fun σ7 eσ7 => ?_)
    have hw := hw.2 σ7 eσ7
    refine a_aload_0 (pc := 43) C dX2_growHour_43 ?_
    refine h_get_kernels (pc := 44) C q157 dX2_growHour_44 ?_
    refine a_iload_1 (pc := 47) C dX2_growHour_47 ?_
    refine h_iald (pc := 48) C (by decide) hw.1 dX2_growHour_48 ?_
    have hw := hw.2
    refine a_iload_3 (pc := 49) C dX2_growHour_49 ?_
    refine a_imul (pc := 50) C dX2_growHour_50 ?_
    refine a_sipush (pc := 51) C dX2_growHour_51 sc_800 ?_
    refine a_idiv (pc := 54) C dX2_growHour_54 (by decide) ?_
    refine a_topi (fun x8 ex8 => ?_)
    have hw := hw x8 ex8
    refine a_istore_5 (pc := 55) C dX2_growHour_55 (by decide) rfl ?_
    refine a_aload_0 (pc := 57) C dX2_growHour_57 ?_
    refine h_get_kernels (pc := 58) C q157 dX2_growHour_58 ?_
    refine a_iload_1 (pc := 61) C dX2_growHour_61 ?_
    refine h_iald (pc := 62) C (by decide) hw.1 dX2_growHour_62 ?_
    have hw := hw.2
    refine a_iload_3 (pc := 63) C dX2_growHour_63 ?_
    refine a_imul (pc := 64) C dX2_growHour_64 ?_
    refine a_sipush (pc := 65) C dX2_growHour_65 sc_300 ?_
    refine a_idiv (pc := 68) C dX2_growHour_68 (by decide) ?_
    refine a_topi (fun x9 ex9 => ?_)
    have hw := hw x9 ex9
    refine a_istore_6 (pc := 69) C dX2_growHour_69 (by decide) rfl ?_
    refine a_aload_0 (pc := 71) C dX2_growHour_71 ?_
    refine h_get_kernels (pc := 72) C q157 dX2_growHour_72 ?_
    refine a_iload_1 (pc := 75) C dX2_growHour_75 ?_
    refine a_dup2 (pc := 76) C dX2_growHour_76 rfl rfl ?_
    refine h_iald (pc := 77) C (by decide) hw.1 dX2_growHour_77 ?_
    have hw := hw.2
    refine a_iload_5 (pc := 78) C dX2_growHour_78 ?_
    refine a_iload_6 (pc := 80) C dX2_growHour_80 ?_
    refine a_iadd (pc := 82) C dX2_growHour_82 ?_
    refine a_isub (pc := 83) C dX2_growHour_83 ?_
    refine h_iast (pc := 84) C (by decide) hw.1 dX2_growHour_84 (fun σ10 eσ10 => ?_)
    have hw := hw.2 σ10 eσ10
    refine a_aload_0 (pc := 85) C dX2_growHour_85 ?_
    refine h_get_rootlets (pc := 86) C q159 dX2_growHour_86 ?_
    refine a_iload_1 (pc := 89) C dX2_growHour_89 ?_
    refine a_dup2 (pc := 90) C dX2_growHour_90 rfl rfl ?_
    refine h_iald (pc := 91) C (by decide) hw.1 dX2_growHour_91 ?_
    have hw := hw.2
    refine a_iload_6 (pc := 92) C dX2_growHour_92 ?_
    refine a_iadd (pc := 94) C dX2_growHour_94 ?_
    refine h_iast (pc := 95) C (by decide) hw.1 dX2_growHour_95 (fun σ11 eσ11 => ?_)
    have hw := hw.2 σ11 eσ11
    refine a_aload_0 (pc := 96) C dX2_growHour_96 ?_
    refine a_dup (pc := 97) C dX2_growHour_97 rfl ?_
    refine h_get_breathed (pc := 98) C q196 dX2_growHour_98 ?_
    refine a_iload_5 (pc := 101) C dX2_growHour_101 ?_
    refine a_iadd (pc := 103) C dX2_growHour_103 ?_
    refine h_put_breathed (pc := 104) C q196 dX2_growHour_104 (fun σ12 eσ12 => ?_)
    have hw := hw σ12 eσ12
    refine a_iconst (pc := 107) C dX2_growHour_107 ic_0 ?_
    refine a_aload_2 (pc := 108) C dX2_growHour_108 ?_
    refine h_bed_air (pc := 109) C hs hw.1 (by decide) q1062 (Nat.le_of_ble_eq_true rfl) dX2_growHour_109 ?_
    have hw := hw.2
    refine a_aload_2 (pc := 114) C dX2_growHour_114 ?_
    refine h_bed_dew (pc := 115) C hs hw.1 (by decide) q1078 (Nat.le_of_ble_eq_true rfl) dX2_growHour_115 ?_
    have hw := hw.2
    refine a_isub (pc := 120) C dX2_growHour_120 ?_
    refine a_mmax (pc := 121) C (by decide) (fun h n u hV => h_end hs hV) q1039 (Nat.le_of_ble_eq_true rfl) dX2_growHour_121 (a_topi (fun v13 ev13 => ?_))
    have hw := hw v13 ev13
    refine a_istore_7 (pc := 124) C dX2_growHour_124 (by decide) rfl ?_
    refine a_aload_0 (pc := 126) C dX2_growHour_126 ?_
    refine h_get_wets (pc := 127) C q161 dX2_growHour_127 ?_
    refine a_iload_1 (pc := 130) C dX2_growHour_130 ?_
    refine a_iload_7 (pc := 131) C dX2_growHour_131 ?_
    refine jn_use hw (fun kj15 ekj15 hw => ?_)
    have hkj15 : ∀ (x16 : Int32), kj15 x16 → AW G p l e (aRm 3 σ.2.2 (2 * σ.2.2)) s m args below meth c (a_A h0 n0) 9 (MQ below (a_Qc G (h_pi Q h0 n0 u0 a σ.2.2) (a_A h0 n0)) args s σ.2.2 (2 * σ.2.2) (a_A h0 n0)) (HW h0 n0 u0 a σ.2.2 σ12) 159 [some (.ref a), some (.int p1), some (.ref (a + 9 + p2)), some (.int v2), some (.int x5), some (.int x8), some (.int x9), some (.int v13), none] [.int x16, .int p1, .ref (a + 1 + 2)] := by
      intro x16 hw
      rw [ekj15] at hw
      refine h_iast (pc := 159) C (by decide) hw.1 dX2_growHour_159 (fun σ17 eσ17 => ?_)
      have hw := hw.2 σ17 eσ17
      refine a_iload_3 (pc := 160) C dX2_growHour_160 ?_
      refine a_iload_4 (pc := 161) C dX2_growHour_161 ?_
      refine jn_use hw (fun kj19 ekj19 hw => ?_)
      have hkj19 : ∀ (x20 : Int32), kj19 x20 → AW G p l e (aRm 3 σ.2.2 (2 * σ.2.2)) s m args below meth c (a_A h0 n0) 9 (MQ below (a_Qc G (h_pi Q h0 n0 u0 a σ.2.2) (a_A h0 n0)) args s σ.2.2 (2 * σ.2.2) (a_A h0 n0)) (HW h0 n0 u0 a σ.2.2 σ17) 171 [some (.ref a), some (.int p1), some (.ref (a + 9 + p2)), some (.int v2), some (.int x5), some (.int x8), some (.int x9), some (.int v13), none] [.int x20, .int v2] := by
        intro x20 hw
        rw [ekj19] at hw
        refine a_iadd (pc := 171) C dX2_growHour_171 ?_
        refine a_aload_2 (pc := 172) C dX2_growHour_172 ?_
        refine h_bed_isHeap (pc := 173) C hs hw.1 (by decide) q1091 (Nat.le_of_ble_eq_true rfl) dX2_growHour_173 ?_
        have hw := hw.2
        refine jn_use hw (fun kj22 ekj22 hw => ?_)
        have hkj22 : ∀ (x23 : Int32), kj22 x23 → AW G p l e (aRm 3 σ.2.2 (2 * σ.2.2)) s m args below meth c (a_A h0 n0) 9 (MQ below (a_Qc G (h_pi Q h0 n0 u0 a σ.2.2) (a_A h0 n0)) args s σ.2.2 (2 * σ.2.2) (a_A h0 n0)) (HW h0 n0 u0 a σ.2.2 σ17) 186 [some (.ref a), some (.int p1), some (.ref (a + 9 + p2)), some (.int v2), some (.int x5), some (.int x8), some (.int x9), some (.int v13), none] [.int x23, .int (v2 + x20)] := by
          intro x23 hw
          rw [ekj22] at hw
          refine a_iadd (pc := 186) C dX2_growHour_186 ?_
          refine a_topi (fun x24 ex24 => ?_)
          have hw := hw x24 ex24
          refine a_istore_8 (pc := 187) C dX2_growHour_187 (by decide) rfl ?_
          refine a_aload_0 (pc := 189) C dX2_growHour_189 ?_
          refine h_get_heats (pc := 190) C q165 dX2_growHour_190 ?_
          refine a_iload_1 (pc := 193) C dX2_growHour_193 ?_
          refine a_bipush (pc := 194) C dX2_growHour_194 bc_10 ?_
          refine a_aload_0 (pc := 196) C dX2_growHour_196 ?_
          refine h_get_heats (pc := 197) C q165 dX2_growHour_197 ?_
          refine a_iload_1 (pc := 200) C dX2_growHour_200 ?_
          refine h_iald (pc := 201) C (by decide) hw.1 dX2_growHour_201 ?_
          have hw := hw.2
          refine a_iload_8 (pc := 202) C dX2_growHour_202 ?_
          refine a_iadd (pc := 204) C dX2_growHour_204 ?_
          refine a_iconst (pc := 205) C dX2_growHour_205 ic_2 ?_
          refine a_aload_2 (pc := 206) C dX2_growHour_206 ?_
          refine h_bed_air (pc := 207) C hs hw.1 (by decide) q1062 (Nat.le_of_ble_eq_true rfl) dX2_growHour_207 ?_
          have hw := hw.2
          refine a_imul (pc := 212) C dX2_growHour_212 ?_
          refine a_isub (pc := 213) C dX2_growHour_213 ?_
          refine a_aload_2 (pc := 214) C dX2_growHour_214 ?_
          refine h_bed_turn (pc := 215) C hs hw.1 (by decide) q1104 (Nat.le_of_ble_eq_true rfl) dX2_growHour_215 ?_
          have hw := hw.2
          refine a_isub (pc := 220) C dX2_growHour_220 ?_
          refine a_mmax (pc := 221) C (by decide) (fun h n u hV => h_end hs hV) q1039 (Nat.le_of_ble_eq_true rfl) dX2_growHour_221 (a_topi (fun v25 ev25 => ?_))
          have hw := hw v25 ev25
          refine h_iast (pc := 224) C (by decide) hw.1 dX2_growHour_224 (fun σ26 eσ26 => ?_)
          have hw := hw.2 σ26 eσ26
          refine a_aload_0 (pc := 225) C dX2_growHour_225 ?_
          refine h_get_felts (pc := 226) C q167 dX2_growHour_226 ?_
          refine a_iload_1 (pc := 229) C dX2_growHour_229 ?_
          refine a_aload_2 (pc := 230) C dX2_growHour_230 ?_
          refine h_bed_turn (pc := 231) C hs hw.1 (by decide) q1104 (Nat.le_of_ble_eq_true rfl) dX2_growHour_231 ?_
          have hw := hw.2
          refine jn_use hw (fun kj28 ekj28 hw => ?_)
          have hkj28 : ∀ (x29 : Int32), kj28 x29 → AW G p l e (aRm 3 σ.2.2 (2 * σ.2.2)) s m args below meth c (a_A h0 n0) 9 (MQ below (a_Qc G (h_pi Q h0 n0 u0 a σ.2.2) (a_A h0 n0)) args s σ.2.2 (2 * σ.2.2) (a_A h0 n0)) (HW h0 n0 u0 a σ.2.2 σ26) 274 [some (.ref a), some (.int p1), some (.ref (a + 9 + p2)), some (.int v2), some (.int x5), some (.int x8), some (.int x9), some (.int v13), some (.int x24)] [.int x29, .int p1, .ref (a + 1 + 5)] := by
            intro x29 hw
            rw [ekj28] at hw
            refine h_iast (pc := 274) C (by decide) hw.1 dX2_growHour_274 (fun σ30 eσ30 => ?_)
            have hw := hw.2 σ30 eσ30
            refine a_aload_0 (pc := 275) C dX2_growHour_275 ?_
            refine h_get_heats (pc := 276) C q165 dX2_growHour_276 ?_
            refine a_iload_1 (pc := 279) C dX2_growHour_279 ?_
            refine h_iald (pc := 280) C (by decide) hw.1 dX2_growHour_280 ?_
            have hw := hw.2
            refine a_bipush (pc := 281) C dX2_growHour_281 bc_42 ?_
            refine a_icmp_le (pc := 283) C 290 dX2_growHour_283 (by decide) (fun c31 => ?_) (fun c31 => ?_)
            · have hw := hw.1 c31
              refine a_iconst (pc := 290) C dX2_growHour_290 ic_0 ?_
              exact a_zret rfl C dX2_growHour_291 (fun h n u hV => ⟨⟨(_, _), rfl, hw, hV⟩, h_end hs hV⟩)
            · have hw := hw.2 c31
              refine a_iconst (pc := 286) C dX2_growHour_286 ic_1 ?_
              refine a_goto (pc := 287) C 291 dX2_growHour_287 (by decide) ?_
              exact a_zret rfl C dX2_growHour_291 (fun h n u hV => ⟨⟨(_, _), rfl, hw, hV⟩, h_end hs hV⟩)
          refine a_if_le (pc := 236) C 261 dX2_growHour_236 (by decide) (fun c27 => ?_) (fun c27 => ?_)
          · have hw := hw.1 c27
            refine a_bipush (pc := 261) C dX2_growHour_261 bc_20 ?_
            refine a_aload_0 (pc := 263) C dX2_growHour_263 ?_
            refine h_get_felts (pc := 264) C q167 dX2_growHour_264 ?_
            refine a_iload_1 (pc := 267) C dX2_growHour_267 ?_
            refine h_iald (pc := 268) C (by decide) hw.1 dX2_growHour_268 ?_
            have hw := hw.2
            refine a_iconst (pc := 269) C dX2_growHour_269 ic_1 ?_
            refine a_iadd (pc := 270) C dX2_growHour_270 ?_
            refine a_mmin (pc := 271) C (by decide) (fun h n u hV => h_end hs hV) q1038 (Nat.le_of_ble_eq_true rfl) dX2_growHour_271 (a_topi (fun v32 ev32 => ?_))
            have hw := hw v32 ev32
            exact hkj28 _ hw
          · have hw := hw.2 c27
            refine a_iconst (pc := 239) C dX2_growHour_239 ic_0 ?_
            refine a_aload_0 (pc := 240) C dX2_growHour_240 ?_
            refine h_get_felts (pc := 241) C q167 dX2_growHour_241 ?_
            refine a_iload_1 (pc := 244) C dX2_growHour_244 ?_
            refine h_iald (pc := 245) C (by decide) hw.1 dX2_growHour_245 ?_
            have hw := hw.2
            refine a_iconst (pc := 246) C dX2_growHour_246 ic_3 ?_
            refine a_aload_2 (pc := 247) C dX2_growHour_247 ?_
            refine h_bed_turn (pc := 248) C hs hw.1 (by decide) q1104 (Nat.le_of_ble_eq_true rfl) dX2_growHour_248 ?_
            have hw := hw.2
            refine a_imul (pc := 253) C dX2_growHour_253 ?_
            refine a_isub (pc := 254) C dX2_growHour_254 ?_
            refine a_mmax (pc := 255) C (by decide) (fun h n u hV => h_end hs hV) q1039 (Nat.le_of_ble_eq_true rfl) dX2_growHour_255 (a_topi (fun v33 ev33 => ?_))
            have hw := hw v33 ev33
            refine a_goto (pc := 258) C 274 dX2_growHour_258 (by decide) ?_
            exact hkj28 _ hw
        refine a_if_eq (pc := 178) C 185 dX2_growHour_178 (by decide) (fun c21 => ?_) (fun c21 => ?_)
        · have hw := hw.1 c21
          refine a_iconst (pc := 185) C dX2_growHour_185 ic_0 ?_
          exact hkj22 _ hw
        · have hw := hw.2 c21
          refine a_iconst (pc := 181) C dX2_growHour_181 ic_1 ?_
          refine a_goto (pc := 182) C 186 dX2_growHour_182 (by decide) ?_
          exact hkj22 _ hw
      refine a_if_eq (pc := 163) C 170 dX2_growHour_163 (by decide) (fun c18 => ?_) (fun c18 => ?_)
      · have hw := hw.1 c18
        refine a_iconst (pc := 170) C dX2_growHour_170 ic_0 ?_
        exact hkj19 _ hw
      · have hw := hw.2 c18
        refine a_iconst (pc := 166) C dX2_growHour_166 ic_1 ?_
        refine a_goto (pc := 167) C 171 dX2_growHour_167 (by decide) ?_
        exact hkj19 _ hw
    refine a_if_ne (pc := 133) C 145 dX2_growHour_133 (by decide) (fun c14 => ?_) (fun c14 => ?_)
    · have hw := hw.1 c14
      refine a_bipush (pc := 145) C dX2_growHour_145 bc_12 ?_
      refine a_aload_0 (pc := 147) C dX2_growHour_147 ?_
      refine h_get_wets (pc := 148) C q161 dX2_growHour_148 ?_
      refine a_iload_1 (pc := 151) C dX2_growHour_151 ?_
      refine h_iald (pc := 152) C (by decide) hw.1 dX2_growHour_152 ?_
      have hw := hw.2
      refine a_iload_7 (pc := 153) C dX2_growHour_153 ?_
      refine a_isub (pc := 155) C dX2_growHour_155 ?_
      refine a_mmax (pc := 156) C (by decide) (fun h n u hV => h_end hs hV) q1039 (Nat.le_of_ble_eq_true rfl) dX2_growHour_156 (a_topi (fun v34 ev34 => ?_))
      have hw := hw v34 ev34
      exact hkj15 _ hw
    · have hw := hw.2 c14
      refine a_aload_0 (pc := 136) C dX2_growHour_136 ?_
      refine h_get_wets (pc := 137) C q161 dX2_growHour_137 ?_
      refine a_iload_1 (pc := 140) C dX2_growHour_140 ?_
      refine h_iald (pc := 141) C (by decide) hw.1 dX2_growHour_141 ?_
      have hw := hw.2
      refine a_goto (pc := 142) C 159 dX2_growHour_142 (by decide) ?_
      exact hkj15 _ hw
  refine a_icmp_lt (pc := 14) C 21 dX2_growHour_14 (by decide) (fun c3 => ?_) (fun c3 => ?_)
  · have hw := hw.1 c3
    refine a_iconst (pc := 21) C dX2_growHour_21 ic_0 ?_
    exact hkj4 _ hw
  · have hw := hw.2 c3
    refine a_iconst (pc := 17) C dX2_growHour_17 ic_1 ?_
    refine a_goto (pc := 18) C 22 dX2_growHour_18 (by decide) ?_
    exact hkj4 _ hw
def wp_X2_leaveDrum (p1 : Int32) (σ : HS) (Q : HS → Prop) : Prop := (wp_X2_drumOf p1 σ (fun v2 σ1 => (((v2 = ((-1))) → (Q σ1)) ∧ ((¬ v2 = ((-1))) → (vp_in v2 4 ∧ ((v2.toNatClampNeg) < 4 ∧ ∀ σ4 : HS, σ4 = hU σ1 7 (v2.toNatClampNeg) ((-1)) → (Q σ4)))))))
theorem sg_X2_leaveDrum : aSig yX2_leaveDrum 1 := by decide +kernel
set_option maxHeartbeats 4000000 in
theorem ct_X2_leaveDrum (l : Launch) (G : aG) (a : Nat) (p1 : Int32) (σ : HS) (Q : HS → Prop) (hw : wp_X2_leaveDrum p1 σ Q) (h0 : AH) (n0 u0 : Nat) (hV : HV h0 a σ) : CT l yX2_leaveDrum (ws_ yX2_leaveDrum cX2_leaveDrum 3 none) 2 G [.ref a, .int p1] h0 n0 u0 σ.2.2 (2 * σ.2.2) (h_pv Q h0 n0 u0 a σ.2.2) := by
  refine CT.intro [some (.ref a), some (.int p1), none] pn_RX2 rfl (Nat.le_of_ble_eq_true rfl) ?_
  intro p e s m args below meth c C hz hu
  have hs : s.heap.size = n0 ∧ slT s.heap = u0 := ⟨hz, hu⟩
  refine a_world (V1 := HW h0 n0 u0 a σ.2.2 σ) (HW.start hV) ?_
  unfold wp_X2_leaveDrum at hw
  refine a_aload_0 (pc := 0) C dX2_leaveDrum_0 ?_
  refine a_iload_1 (pc := 1) C dX2_leaveDrum_1 ?_
  refine h_callV1i (pc := 2) C hs (fun h n u hV => ct_X2_drumOf l G a _ _ _ hw h n u hV) (by decide) (by decide) rfl (lw_V q1044 q1045 q1046 q66 q1047) sg_X2_drumOf (Nat.le_of_ble_eq_true rfl) dX2_leaveDrum_2 (fun v2 σ1 hw => ?_)
  refine a_istore_2 (pc := 5) C dX2_leaveDrum_5 (by decide) rfl ?_
  refine a_iload_2 (pc := 6) C dX2_leaveDrum_6 ?_
  refine a_iconst (pc := 7) C dX2_leaveDrum_7 ic_m1 ?_
  refine a_icmp_eq (pc := 8) C 21 dX2_leaveDrum_8 (by decide) (fun c3 => ?_) (fun c3 => ?_)
  · have hw := hw.1 c3
    exact a_vret C dX2_leaveDrum_21 (fun h n u hV => ⟨⟨_, rfl, hw, hV⟩, h_end hs hV⟩)
  · have hw := hw.2 c3
    refine a_aload_0 (pc := 11) C dX2_leaveDrum_11 ?_
    refine h_get_drums (pc := 12) C q171 dX2_leaveDrum_12 ?_
    refine a_iload_2 (pc := 15) C dX2_leaveDrum_15 ?_
    refine h_aald (pc := 16) C hw.1 dX2_leaveDrum_16 ?_
    have hw := hw.2
    refine a_iconst (pc := 17) C dX2_leaveDrum_17 ic_m1 ?_
    refine h_put_lot (pc := 18) C hw.1 q140 dX2_leaveDrum_18 (fun σ4 eσ4 => ?_)
    have hw := hw.2 σ4 eσ4
    exact a_vret C dX2_leaveDrum_21 (fun h n u hV => ⟨⟨_, rfl, hw, hV⟩, h_end hs hV⟩)
def wp_X2_bring (p1 : Int32) (p2 : Int32) (σ : HS) (Q : HS → Prop) : Prop := (wp_X2_leaveDrum p1 σ (fun σ1 => (vp_in p1 12 ∧ ∀ σ2 : HS, σ2 = hU σ1 6 p1.toNatClampNeg p2 → (wp_X2_note p2 p1 σ2 (fun σ3 => (Q σ3))))))
theorem sg_X2_bring : aSig yX2_bring 2 := by decide +kernel
set_option maxHeartbeats 4000000 in
theorem ct_X2_bring (l : Launch) (G : aG) (a : Nat) (p1 : Int32) (p2 : Int32) (σ : HS) (Q : HS → Prop) (hw : wp_X2_bring p1 p2 σ Q) (h0 : AH) (n0 u0 : Nat) (hV : HV h0 a σ) : CT l yX2_bring (ws_ yX2_bring cX2_bring 3 none) 17 G [.ref a, .int p1, .int p2] h0 n0 u0 σ.2.2 (2 * σ.2.2) (h_pv Q h0 n0 u0 a σ.2.2) := by
  refine CT.intro [some (.ref a), some (.int p1), some (.int p2)] pn_RX2 rfl (Nat.le_of_ble_eq_true rfl) ?_
  intro p e s m args below meth c C hz hu
  have hs : s.heap.size = n0 ∧ slT s.heap = u0 := ⟨hz, hu⟩
  refine a_world (V1 := HW h0 n0 u0 a σ.2.2 σ) (HW.start hV) ?_
  unfold wp_X2_bring at hw
  refine a_aload_0 (pc := 0) C dX2_bring_0 ?_
  refine a_iload_1 (pc := 1) C dX2_bring_1 ?_
  refine h_callV1v (pc := 2) C hs (fun h n u hV => ct_X2_leaveDrum l G a _ _ _ hw h n u hV) (by decide) (by decide) rfl (lw_V q1120 q1122 qs17 q66 q1123) sg_X2_leaveDrum (Nat.le_of_ble_eq_true rfl) dX2_bring_2 (fun σ1 hw => ?_)
  refine a_aload_0 (pc := 5) C dX2_bring_5 ?_
  refine h_get_places (pc := 6) C q169 dX2_bring_6 ?_
  refine a_iload_1 (pc := 9) C dX2_bring_9 ?_
  refine a_iload_2 (pc := 10) C dX2_bring_10 ?_
  refine h_iast (pc := 11) C (by decide) hw.1 dX2_bring_11 (fun σ2 eσ2 => ?_)
  have hw := hw.2 σ2 eσ2
  refine a_aload_0 (pc := 12) C dX2_bring_12 ?_
  refine a_iload_2 (pc := 13) C dX2_bring_13 ?_
  refine a_iload_1 (pc := 14) C dX2_bring_14 ?_
  refine h_callV2v (pc := 15) C hs (fun h n u hV => ct_X2_note l G a _ _ _ _ hw h n u hV) (by decide) (by decide) rfl (lw_V q1124 q1126 qs18 q66 q1127) sg_X2_note (Nat.le_of_ble_eq_true rfl) dX2_bring_15 (fun σ3 hw => ?_)
  exact a_vret C dX2_bring_18 (fun h n u hV => ⟨⟨_, rfl, hw, hV⟩, h_end hs hV⟩)
def wp_X2_kilnHeat (σ : HS) (Q : Int32 → HS → Prop) : Prop := (((10 ≤ (σ.1 11 4)) → (Q (σ.1 11 6) σ)) ∧ ((¬ 10 ≤ (σ.1 11 4)) → (Q (σ.1 11 5) σ)))
theorem sg_X2_kilnHeat : aSig yX2_kilnHeat 0 := by decide +kernel
set_option maxHeartbeats 4000000 in
theorem ct_X2_kilnHeat (l : Launch) (G : aG) (a : Nat)  (σ : HS) (Q : Int32 → HS → Prop) (hw : wp_X2_kilnHeat  σ Q) (h0 : AH) (n0 u0 : Nat) (hV : HV h0 a σ) : CT l yX2_kilnHeat (ws_ yX2_kilnHeat cX2_kilnHeat 1 (some .int)) 1 G [.ref a] h0 n0 u0 σ.2.2 (2 * σ.2.2) (h_pi Q h0 n0 u0 a σ.2.2) := by
  refine CT.intro [some (.ref a)] pn_RX2 rfl (Nat.le_of_ble_eq_true rfl) ?_
  intro p e s m args below meth c C hz hu
  have hs : s.heap.size = n0 ∧ slT s.heap = u0 := ⟨hz, hu⟩
  refine a_world (V1 := HW h0 n0 u0 a σ.2.2 σ) (HW.start hV) ?_
  unfold wp_X2_kilnHeat at hw
  refine a_aload_0 (pc := 0) C dX2_kilnHeat_0 ?_
  refine h_get_litFor (pc := 1) C q184 dX2_kilnHeat_1 ?_
  refine a_bipush (pc := 4) C dX2_kilnHeat_4 bc_10 ?_
  refine a_icmp_ge (pc := 6) C 16 dX2_kilnHeat_6 (by decide) (fun c1 => ?_) (fun c1 => ?_)
  · have hw := hw.1 c1
    refine a_aload_0 (pc := 16) C dX2_kilnHeat_16 ?_
    refine h_get_high (pc := 17) C q188 dX2_kilnHeat_17 ?_
    exact a_iret C dX2_kilnHeat_20 (fun h n u hV => ⟨⟨(_, _), rfl, hw, hV⟩, h_end hs hV⟩)
  · have hw := hw.2 c1
    refine a_aload_0 (pc := 9) C dX2_kilnHeat_9 ?_
    refine h_get_low (pc := 10) C q186 dX2_kilnHeat_10 ?_
    refine a_goto (pc := 13) C 20 dX2_kilnHeat_13 (by decide) ?_
    exact a_iret C dX2_kilnHeat_20 (fun h n u hV => ⟨⟨(_, _), rfl, hw, hV⟩, h_end hs hV⟩)
def wp_X2_kilnHour (p1 : Int32) (σ : HS) (Q : HS → Prop) : Prop := (wp_X2_kilnHeat σ (fun v2 σ1 => (jn (fun (x5 : Int32) => (∀ σ6 : HS, σ6 = hU σ1 11 0 ((σ1.1 11 0) ||| x5) → (vp_in p1 12 ∧ ∀ σ7 : HS, σ7 = hU σ6 4 p1.toNatClampNeg v2 → (vp_in p1 12 ∧ (∀ v8 : Int32, v8 = iMax 3 ((σ7.1 2 p1.toNatClampNeg) - (v2 / 20)) → (vp_in p1 12 ∧ ∀ σ9 : HS, σ9 = hU σ7 2 p1.toNatClampNeg v8 → (Q σ9))))))) (fun kj4 => (((v2 ≤ 80) → (kj4 0)) ∧ ((¬ v2 ≤ 80) → (vp_in p1 12 ∧ ((((σ1.1 2 p1.toNatClampNeg) ≤ 20) → (kj4 0)) ∧ ((¬ (σ1.1 2 p1.toNatClampNeg) ≤ 20) → (kj4 (1 <<< (p1 &&& 31))))))))))))
theorem sg_X2_kilnHour : aSig yX2_kilnHour 1 := by decide +kernel
set_option maxHeartbeats 4000000 in
theorem ct_X2_kilnHour (l : Launch) (G : aG) (a : Nat) (p1 : Int32) (σ : HS) (Q : HS → Prop) (hw : wp_X2_kilnHour p1 σ Q) (h0 : AH) (n0 u0 : Nat) (hV : HV h0 a σ) : CT l yX2_kilnHour (ws_ yX2_kilnHour cX2_kilnHour 3 none) 2 G [.ref a, .int p1] h0 n0 u0 σ.2.2 (2 * σ.2.2) (h_pv Q h0 n0 u0 a σ.2.2) := by
  refine CT.intro [some (.ref a), some (.int p1), none] pn_RX2 rfl (Nat.le_of_ble_eq_true rfl) ?_
  intro p e s m args below meth c C hz hu
  have hs : s.heap.size = n0 ∧ slT s.heap = u0 := ⟨hz, hu⟩
  refine a_world (V1 := HW h0 n0 u0 a σ.2.2 σ) (HW.start hV) ?_
  unfold wp_X2_kilnHour at hw
  refine a_aload_0 (pc := 0) C dX2_kilnHour_0 ?_
  refine h_callV0i (pc := 1) C hs (fun h n u hV => ct_X2_kilnHeat l G a  _ _ hw h n u hV) (by decide) (by decide) rfl (lw_V q1153 q1154 q1155 q66 q1156) sg_X2_kilnHeat (Nat.le_of_ble_eq_true rfl) dX2_kilnHour_1 (fun v2 σ1 hw => ?_)
  refine a_istore_2 (pc := 4) C dX2_kilnHour_4 (by decide) rfl ?_
  refine a_aload_0 (pc := 5) C dX2_kilnHour_5 ?_
  refine a_dup (pc := 6) C dX2_kilnHour_6 rfl ?_
  refine h_get_glassy (pc := 7) C q176 dX2_kilnHour_7 ?_
  refine a_iload_2 (pc := 10) C dX2_kilnHour_10 ?_
  refine a_bipush (pc := 11) C dX2_kilnHour_11 bc_80 ?_
  refine jn_use hw (fun kj4 ekj4 hw => ?_)
  have hkj4 : ∀ (x5 : Int32), kj4 x5 → AW G p l e (aRm 2 σ.2.2 (2 * σ.2.2)) s m args below meth c (a_A h0 n0) 3 (MQ below (a_Qc G (h_pv Q h0 n0 u0 a σ.2.2) (a_A h0 n0)) args s σ.2.2 (2 * σ.2.2) (a_A h0 n0)) (HW h0 n0 u0 a σ.2.2 σ1) 34 [some (.ref a), some (.int p1), some (.int v2)] [.int x5, .int (σ1.1 11 0), .ref a] := by
    intro x5 hw
    rw [ekj4] at hw
    refine a_ior (pc := 34) C dX2_kilnHour_34 ?_
    refine h_put_glassy (pc := 35) C q176 dX2_kilnHour_35 (fun σ6 eσ6 => ?_)
    have hw := hw σ6 eσ6
    refine a_aload_0 (pc := 38) C dX2_kilnHour_38 ?_
    refine h_get_heats (pc := 39) C q165 dX2_kilnHour_39 ?_
    refine a_iload_1 (pc := 42) C dX2_kilnHour_42 ?_
    refine a_iload_2 (pc := 43) C dX2_kilnHour_43 ?_
    refine h_iast (pc := 44) C (by decide) hw.1 dX2_kilnHour_44 (fun σ7 eσ7 => ?_)
    have hw := hw.2 σ7 eσ7
    refine a_aload_0 (pc := 45) C dX2_kilnHour_45 ?_
    refine h_get_wets (pc := 46) C q161 dX2_kilnHour_46 ?_
    refine a_iload_1 (pc := 49) C dX2_kilnHour_49 ?_
    refine a_iconst (pc := 50) C dX2_kilnHour_50 ic_3 ?_
    refine a_aload_0 (pc := 51) C dX2_kilnHour_51 ?_
    refine h_get_wets (pc := 52) C q161 dX2_kilnHour_52 ?_
    refine a_iload_1 (pc := 55) C dX2_kilnHour_55 ?_
    refine h_iald (pc := 56) C (by decide) hw.1 dX2_kilnHour_56 ?_
    have hw := hw.2
    refine a_iload_2 (pc := 57) C dX2_kilnHour_57 ?_
    refine a_bipush (pc := 58) C dX2_kilnHour_58 bc_20 ?_
    refine a_idiv (pc := 60) C dX2_kilnHour_60 (by decide) ?_
    refine a_isub (pc := 61) C dX2_kilnHour_61 ?_
    refine a_mmax (pc := 62) C (by decide) (fun h n u hV => h_end hs hV) q1039 (Nat.le_of_ble_eq_true rfl) dX2_kilnHour_62 (a_topi (fun v8 ev8 => ?_))
    have hw := hw v8 ev8
    refine h_iast (pc := 65) C (by decide) hw.1 dX2_kilnHour_65 (fun σ9 eσ9 => ?_)
    have hw := hw.2 σ9 eσ9
    exact a_vret C dX2_kilnHour_66 (fun h n u hV => ⟨⟨_, rfl, hw, hV⟩, h_end hs hV⟩)
  refine a_icmp_le (pc := 13) C 33 dX2_kilnHour_13 (by decide) (fun c3 => ?_) (fun c3 => ?_)
  · have hw := hw.1 c3
    refine a_iconst (pc := 33) C dX2_kilnHour_33 ic_0 ?_
    exact hkj4 _ hw
  · have hw := hw.2 c3
    refine a_aload_0 (pc := 16) C dX2_kilnHour_16 ?_
    refine h_get_wets (pc := 17) C q161 dX2_kilnHour_17 ?_
    refine a_iload_1 (pc := 20) C dX2_kilnHour_20 ?_
    refine h_iald (pc := 21) C (by decide) hw.1 dX2_kilnHour_21 ?_
    have hw := hw.2
    refine a_bipush (pc := 22) C dX2_kilnHour_22 bc_20 ?_
    refine a_icmp_le (pc := 24) C 33 dX2_kilnHour_24 (by decide) (fun c10 => ?_) (fun c10 => ?_)
    · have hw := hw.1 c10
      refine a_iconst (pc := 33) C dX2_kilnHour_33 ic_0 ?_
      exact hkj4 _ hw
    · have hw := hw.2 c10
      refine a_iconst (pc := 27) C dX2_kilnHour_27 ic_1 ?_
      refine a_iload_1 (pc := 28) C dX2_kilnHour_28 ?_
      refine a_ishl (pc := 29) C dX2_kilnHour_29 ?_
      refine a_goto (pc := 30) C 34 dX2_kilnHour_30 (by decide) ?_
      exact hkj4 _ hw
def wp_X2_lotHour (p1 : Int32) (σ : HS) (Q : Int32 → HS → Prop) : Prop := (vp_in p1 12 ∧ (∀ x1 : Int32, x1 = σ.1 6 p1.toNatClampNeg → ((x1 = 1 → (wp_X2_steepHour p1 σ (fun σ3 => (Q 0 σ3)))) ∧ (¬ x1 = 1 → ((x1 = 2 → (wp_X2_bed p1 σ (fun b5 σ4 => (wp_X2_growHour p1 b5 σ4 (fun v7 σ6 => (jn (fun (σ10 : HS) => (((v7 = 0) → (Q 0 σ10)) ∧ ((¬ v7 = 0) → (Q 1 σ10)))) (fun kj9 => (((v7 = 0) → (kj9 σ6)) ∧ ((¬ v7 = 0) → (wp_X2_bring p1 6 σ6 (fun σ12 => (kj9 σ12)))))))))))) ∧ (¬ x1 = 2 → ((x1 = 3 → (wp_X2_bed p1 σ (fun b14 σ13 => (wp_X2_growHour p1 b14 σ13 (fun v16 σ15 => (jn (fun (σ19 : HS) => (((v16 = 0) → (Q 0 σ19)) ∧ ((¬ v16 = 0) → (Q 1 σ19)))) (fun kj18 => (((v16 = 0) → (kj18 σ15)) ∧ ((¬ v16 = 0) → (wp_X2_bring p1 6 σ15 (fun σ21 => (kj18 σ21)))))))))))) ∧ (¬ x1 = 3 → ((x1 = 4 → ((((σ.1 11 3) = 0) → (Q 0 σ)) ∧ ((¬ (σ.1 11 3) = 0) → (wp_X2_kilnHour p1 σ (fun σ23 => (Q 0 σ23)))))) ∧ (¬ x1 = 4 → (Q 0 σ)))))))))))
theorem sg_X2_lotHour : aSig yX2_lotHour 1 := by decide +kernel
set_option maxHeartbeats 4000000 in
theorem ct_X2_lotHour (l : Launch) (G : aG) (a : Nat) (p1 : Int32) (σ : HS) (Q : Int32 → HS → Prop) (hw : wp_X2_lotHour p1 σ Q) (h0 : AH) (n0 u0 : Nat) (hV : HV h0 a σ) : CT l yX2_lotHour (ws_ yX2_lotHour cX2_lotHour 3 (some .int)) 18 G [.ref a, .int p1] h0 n0 u0 σ.2.2 (2 * σ.2.2) (h_pi Q h0 n0 u0 a σ.2.2) := by
  refine CT.intro [some (.ref a), some (.int p1), none] pn_RX2 rfl (Nat.le_of_ble_eq_true rfl) ?_
  intro p e s m args below meth c C hz hu
  have hs : s.heap.size = n0 ∧ slT s.heap = u0 := ⟨hz, hu⟩
  refine a_world (V1 := HW h0 n0 u0 a σ.2.2 σ) (HW.start hV) ?_
  unfold wp_X2_lotHour at hw
  refine a_aload_0 (pc := 0) C dX2_lotHour_0 ?_
  refine h_get_places (pc := 1) C q169 dX2_lotHour_1 ?_
  refine a_iload_1 (pc := 4) C dX2_lotHour_4 ?_
  refine h_iald (pc := 5) C (by decide) hw.1 dX2_lotHour_5 ?_
  have hw := hw.2
  refine a_topi (fun x1 ex1 => ?_)
  have hw := hw x1 ex1
  by_cases c2_0 : x1 = 1
  · have hw := hw.1 c2_0
    refine a_tableIn (pc := 6) C 36 dX2_lotHour_6 (by rw [c2_0]; decide) (by rw [c2_0]; decide) (by rw [c2_0]; rfl) (by decide) ?_
    refine a_aload_0 (pc := 36) C dX2_lotHour_36 ?_
    refine a_iload_1 (pc := 37) C dX2_lotHour_37 ?_
    refine h_callV1v (pc := 38) C hs (fun h n u hV => ct_X2_steepHour l G a _ _ _ hw h n u hV) (by decide) (by decide) rfl (lw_V q1034 q1036 qs13 q66 q1037) sg_X2_steepHour (Nat.le_of_ble_eq_true rfl) dX2_lotHour_38 (fun σ3 hw => ?_)
    refine a_iconst (pc := 41) C dX2_lotHour_41 ic_0 ?_
    exact a_iret C dX2_lotHour_42 (fun h n u hV => ⟨⟨(_, _), rfl, hw, hV⟩, h_end hs hV⟩)
  · have hw := hw.2 c2_0
    by_cases c2_1 : x1 = 2
    · have hw := hw.1 c2_1
      refine a_tableIn (pc := 6) C 43 dX2_lotHour_6 (by rw [c2_1]; decide) (by rw [c2_1]; decide) (by rw [c2_1]; rfl) (by decide) ?_
      refine a_aload_0 (pc := 43) C dX2_lotHour_43 ?_
      refine a_iload_1 (pc := 44) C dX2_lotHour_44 ?_
      refine a_aload_0 (pc := 45) C dX2_lotHour_45 ?_
      refine a_iload_1 (pc := 46) C dX2_lotHour_46 ?_
      refine h_callV1b (pc := 47) C hs (fun h n u hV => ct_X2_bed l G a _ _ _ hw h n u hV) (by decide) (by decide) rfl (lw_V q1040 q1042 qs14 q66 q1043) sg_X2_bed (Nat.le_of_ble_eq_true rfl) dX2_lotHour_47 (fun b5 σ4 hw => ?_)
      refine h_callV2i (pc := 50) C hs (fun h n u hV => ct_X2_growHour l G a _ _ _ _ hw h n u hV) (by decide) (by decide) rfl (lw_V q1048 q1050 qs15 q66 q1051) sg_X2_growHour (Nat.le_of_ble_eq_true rfl) dX2_lotHour_50 (fun v7 σ6 hw => ?_)
      refine a_istore_2 (pc := 53) C dX2_lotHour_53 (by decide) rfl ?_
      refine a_iload_2 (pc := 54) C dX2_lotHour_54 ?_
      refine jn_use hw (fun kj9 ekj9 hw => ?_)
      have hkj9 : ∀ (σ10 : HS), kj9 σ10 → AW G p l e (aRm 18 σ.2.2 (2 * σ.2.2)) s m args below meth c (a_A h0 n0) 3 (MQ below (a_Qc G (h_pi Q h0 n0 u0 a σ.2.2) (a_A h0 n0)) args s σ.2.2 (2 * σ.2.2) (a_A h0 n0)) (HW h0 n0 u0 a σ.2.2 σ10) 65 [some (.ref a), some (.int p1), some (.int v7)] [] := by
        intro σ10 hw
        rw [ekj9] at hw
        refine a_iload_2 (pc := 65) C dX2_lotHour_65 ?_
        refine a_if_eq (pc := 66) C 73 dX2_lotHour_66 (by decide) (fun c11 => ?_) (fun c11 => ?_)
        · have hw := hw.1 c11
          refine a_iconst (pc := 73) C dX2_lotHour_73 ic_0 ?_
          exact a_iret C dX2_lotHour_74 (fun h n u hV => ⟨⟨(_, _), rfl, hw, hV⟩, h_end hs hV⟩)
        · have hw := hw.2 c11
          refine a_iconst (pc := 69) C dX2_lotHour_69 ic_1 ?_
          refine a_goto (pc := 70) C 74 dX2_lotHour_70 (by decide) ?_
          exact a_iret C dX2_lotHour_74 (fun h n u hV => ⟨⟨(_, _), rfl, hw, hV⟩, h_end hs hV⟩)
      refine a_if_eq (pc := 55) C 65 dX2_lotHour_55 (by decide) (fun c8 => ?_) (fun c8 => ?_)
      · have hw := hw.1 c8
        exact hkj9 _ hw
      · have hw := hw.2 c8
        refine a_aload_0 (pc := 58) C dX2_lotHour_58 ?_
        refine a_iload_1 (pc := 59) C dX2_lotHour_59 ?_
        refine a_bipush (pc := 60) C dX2_lotHour_60 bc_6 ?_
        refine h_callV2v (pc := 62) C hs (fun h n u hV => ct_X2_bring l G a _ _ _ _ hw h n u hV) (by decide) (by decide) rfl (lw_V q1116 q1118 qs16 q66 q1119) sg_X2_bring (Nat.le_of_ble_eq_true rfl) dX2_lotHour_62 (fun σ12 hw => ?_)
        exact hkj9 _ hw
    · have hw := hw.2 c2_1
      by_cases c2_2 : x1 = 3
      · have hw := hw.1 c2_2
        refine a_tableIn (pc := 6) C 43 dX2_lotHour_6 (by rw [c2_2]; decide) (by rw [c2_2]; decide) (by rw [c2_2]; rfl) (by decide) ?_
        refine a_aload_0 (pc := 43) C dX2_lotHour_43 ?_
        refine a_iload_1 (pc := 44) C dX2_lotHour_44 ?_
        refine a_aload_0 (pc := 45) C dX2_lotHour_45 ?_
        refine a_iload_1 (pc := 46) C dX2_lotHour_46 ?_
        refine h_callV1b (pc := 47) C hs (fun h n u hV => ct_X2_bed l G a _ _ _ hw h n u hV) (by decide) (by decide) rfl (lw_V q1040 q1042 qs14 q66 q1043) sg_X2_bed (Nat.le_of_ble_eq_true rfl) dX2_lotHour_47 (fun b14 σ13 hw => ?_)
        refine h_callV2i (pc := 50) C hs (fun h n u hV => ct_X2_growHour l G a _ _ _ _ hw h n u hV) (by decide) (by decide) rfl (lw_V q1048 q1050 qs15 q66 q1051) sg_X2_growHour (Nat.le_of_ble_eq_true rfl) dX2_lotHour_50 (fun v16 σ15 hw => ?_)
        refine a_istore_2 (pc := 53) C dX2_lotHour_53 (by decide) rfl ?_
        refine a_iload_2 (pc := 54) C dX2_lotHour_54 ?_
        refine jn_use hw (fun kj18 ekj18 hw => ?_)
        have hkj18 : ∀ (σ19 : HS), kj18 σ19 → AW G p l e (aRm 18 σ.2.2 (2 * σ.2.2)) s m args below meth c (a_A h0 n0) 3 (MQ below (a_Qc G (h_pi Q h0 n0 u0 a σ.2.2) (a_A h0 n0)) args s σ.2.2 (2 * σ.2.2) (a_A h0 n0)) (HW h0 n0 u0 a σ.2.2 σ19) 65 [some (.ref a), some (.int p1), some (.int v16)] [] := by
          intro σ19 hw
          rw [ekj18] at hw
          refine a_iload_2 (pc := 65) C dX2_lotHour_65 ?_
          refine a_if_eq (pc := 66) C 73 dX2_lotHour_66 (by decide) (fun c20 => ?_) (fun c20 => ?_)
          · have hw := hw.1 c20
            refine a_iconst (pc := 73) C dX2_lotHour_73 ic_0 ?_
            exact a_iret C dX2_lotHour_74 (fun h n u hV => ⟨⟨(_, _), rfl, hw, hV⟩, h_end hs hV⟩)
          · have hw := hw.2 c20
            refine a_iconst (pc := 69) C dX2_lotHour_69 ic_1 ?_
            refine a_goto (pc := 70) C 74 dX2_lotHour_70 (by decide) ?_
            exact a_iret C dX2_lotHour_74 (fun h n u hV => ⟨⟨(_, _), rfl, hw, hV⟩, h_end hs hV⟩)
        refine a_if_eq (pc := 55) C 65 dX2_lotHour_55 (by decide) (fun c17 => ?_) (fun c17 => ?_)
        · have hw := hw.1 c17
          exact hkj18 _ hw
        · have hw := hw.2 c17
          refine a_aload_0 (pc := 58) C dX2_lotHour_58 ?_
          refine a_iload_1 (pc := 59) C dX2_lotHour_59 ?_
          refine a_bipush (pc := 60) C dX2_lotHour_60 bc_6 ?_
          refine h_callV2v (pc := 62) C hs (fun h n u hV => ct_X2_bring l G a _ _ _ _ hw h n u hV) (by decide) (by decide) rfl (lw_V q1116 q1118 qs16 q66 q1119) sg_X2_bring (Nat.le_of_ble_eq_true rfl) dX2_lotHour_62 (fun σ21 hw => ?_)
          exact hkj18 _ hw
      · have hw := hw.2 c2_2
        by_cases c2_3 : x1 = 4
        · have hw := hw.1 c2_3
          refine a_tableIn (pc := 6) C 75 dX2_lotHour_6 (by rw [c2_3]; decide) (by rw [c2_3]; decide) (by rw [c2_3]; rfl) (by decide) ?_
          refine a_aload_0 (pc := 75) C dX2_lotHour_75 ?_
          refine h_get_isLit (pc := 76) C q182 dX2_lotHour_76 ?_
          refine a_if_eq (pc := 79) C 87 dX2_lotHour_79 (by decide) (fun c22 => ?_) (fun c22 => ?_)
          · have hw := hw.1 c22
            refine a_iconst (pc := 87) C dX2_lotHour_87 ic_0 ?_
            exact a_iret C dX2_lotHour_88 (fun h n u hV => ⟨⟨(_, _), rfl, hw, hV⟩, h_end hs hV⟩)
          · have hw := hw.2 c22
            refine a_aload_0 (pc := 82) C dX2_lotHour_82 ?_
            refine a_iload_1 (pc := 83) C dX2_lotHour_83 ?_
            refine h_callV1v (pc := 84) C hs (fun h n u hV => ct_X2_kilnHour l G a _ _ _ hw h n u hV) (by decide) (by decide) rfl (lw_V q1149 q1151 qs19 q66 q1152) sg_X2_kilnHour (Nat.le_of_ble_eq_true rfl) dX2_lotHour_84 (fun σ23 hw => ?_)
            refine a_iconst (pc := 87) C dX2_lotHour_87 ic_0 ?_
            exact a_iret C dX2_lotHour_88 (fun h n u hV => ⟨⟨(_, _), rfl, hw, hV⟩, h_end hs hV⟩)
        · have hw := hw.2 c2_3
          refine a_tableOut (pc := 6) C 89 dX2_lotHour_6 (by have := lv_neT c2_0 (a := 1) (by decide); have := lv_neT c2_1 (a := 2) (by decide); have := lv_neT c2_2 (a := 3) (by decide); have := lv_neT c2_3 (a := 4) (by decide); omega) (by decide) ?_
          refine a_iconst (pc := 89) C dX2_lotHour_89 ic_0 ?_
          exact a_iret C dX2_lotHour_90 (fun h n u hV => ⟨⟨(_, _), rfl, hw, hV⟩, h_end hs hV⟩)
def wp_X2_isDry_L7 (kx3 : Int32 → Int32 → Prop) (σ : HS) : Nat → Int32 → Int32 → Prop
  | 0, _, _ => False
  | F + 1, x1, x2 => ((((σ.1 11 1) ≤ x2) → (kx3 x1 x2)) ∧ ((¬ (σ.1 11 1) ≤ x2) → (jn (fun (x9 : Int32) => (wp_X2_isDry_L7 kx3 σ F x9 (x2 + 1))) (fun kj8 => (((x1 = 0) → (kj8 0)) ∧ ((¬ x1 = 0) → (vp_in x2 12 ∧ (((¬ (σ.1 6 x2.toNatClampNeg) = 4) → (kj8 1)) ∧ (((σ.1 6 x2.toNatClampNeg) = 4) → (vp_in x2 12 ∧ (((4 < (σ.1 2 x2.toNatClampNeg)) → (kj8 0)) ∧ ((¬ 4 < (σ.1 2 x2.toNatClampNeg)) → (kj8 1)))))))))))))
def wp_X2_isDry (σ : HS) (Q : Int32 → HS → Prop) : Prop := (jn (fun (x4 : Int32) (x5 : Int32) => ((x4 = 0 ∨ x4 = 1) ∧ (Q x4 σ))) (fun kx3 => wp_X2_isDry_L7 kx3 σ mF (σ.1 11 3) 0))
theorem sg_X2_isDry : aSig yX2_isDry 0 := by decide +kernel
set_option maxHeartbeats 4000000 in
theorem ct_X2_isDry (l : Launch) (G : aG) (a : Nat)  (σ : HS) (Q : Int32 → HS → Prop) (hw : wp_X2_isDry  σ Q) (h0 : AH) (n0 u0 : Nat) (hV : HV h0 a σ) : CT l yX2_isDry (ws_ yX2_isDry cX2_isDry 3 (some .boolean)) 1 G [.ref a] h0 n0 u0 σ.2.2 (2 * σ.2.2) (h_pi Q h0 n0 u0 a σ.2.2) := by
  refine CT.intro [some (.ref a), none, none] pn_RX2 rfl (Nat.le_of_ble_eq_true rfl) ?_
  intro p e s m args below meth c C hz hu
  have hs : s.heap.size = n0 ∧ slT s.heap = u0 := ⟨hz, hu⟩
  refine a_world (V1 := HW h0 n0 u0 a σ.2.2 σ) (HW.start hV) ?_
  unfold wp_X2_isDry at hw
  refine a_aload_0 (pc := 0) C dX2_isDry_0 ?_
  refine h_get_isLit (pc := 1) C q182 dX2_isDry_1 ?_
  refine a_istore_1 (pc := 4) C dX2_isDry_4 (by decide) rfl ?_
  refine a_iconst (pc := 5) C dX2_isDry_5 ic_0 ?_
  refine a_istore_2 (pc := 6) C dX2_isDry_6 (by decide) rfl ?_
  refine jn_use hw (fun kx3 ekx3 hw => ?_)
  have hkx3 : ∀ (x4 : Int32) (x5 : Int32), kx3 x4 x5 → AW G p l e (aRm 1 σ.2.2 (2 * σ.2.2)) s m args below meth c (a_A h0 n0) 3 (MQ below (a_Qc G (h_pi Q h0 n0 u0 a σ.2.2) (a_A h0 n0)) args s σ.2.2 (2 * σ.2.2) (a_A h0 n0)) (HW h0 n0 u0 a σ.2.2 σ) 51 [some (.ref a), some (.int x4), some (.int x5)] [] := by
    intro x4 x5 hw
    rw [ekx3] at hw
    refine a_iload_1 (pc := 51) C dX2_isDry_51 ?_
    have hz := hw.1
    have hw := hw.2
    exact a_zret (narrow_bool hz) C dX2_isDry_52 (fun h n u hV => ⟨⟨(_, _), rfl, hw, hV⟩, h_end hs hV⟩)
  have lp7 : ∀ (F : Nat) (x1 : Int32) (x2 : Int32), wp_X2_isDry_L7 kx3 σ F x1 x2 → AW G p l e (aRm 1 σ.2.2 (2 * σ.2.2)) s m args below meth c (a_A h0 n0) 3 (MQ below (a_Qc G (h_pi Q h0 n0 u0 a σ.2.2) (a_A h0 n0)) args s σ.2.2 (2 * σ.2.2) (a_A h0 n0)) (HW h0 n0 u0 a σ.2.2 σ) 7 [some (.ref a), some (.int x1), some (.int x2)] [] := by
    intro F
    induction F with
    | zero => intro x1 x2 hw; exact False.elim hw
    | succ F ih =>
      intro x1 x2 hw
      rw [wp_X2_isDry_L7] at hw
      refine a_iload_2 (pc := 7) C dX2_isDry_7 ?_
      refine a_aload_0 (pc := 8) C dX2_isDry_8 ?_
      refine h_get_lots (pc := 9) C q178 dX2_isDry_9 ?_
      refine a_icmp_ge (pc := 12) C 51 dX2_isDry_12 (by decide) (fun c6 => ?_) (fun c6 => ?_)
      · have hw := hw.1 c6
        exact hkx3 _ _ hw
      · have hw := hw.2 c6
        refine a_iload_1 (pc := 15) C dX2_isDry_15 ?_
        refine jn_use hw (fun kj8 ekj8 hw => ?_)
        have hkj8 : ∀ (x9 : Int32), kj8 x9 → AW G p l e (aRm 1 σ.2.2 (2 * σ.2.2)) s m args below meth c (a_A h0 n0) 3 (MQ below (a_Qc G (h_pi Q h0 n0 u0 a σ.2.2) (a_A h0 n0)) args s σ.2.2 (2 * σ.2.2) (a_A h0 n0)) (HW h0 n0 u0 a σ.2.2 σ) 44 [some (.ref a), some (.int x1), some (.int x2)] [.int x9] := by
          intro x9 hw
          rw [ekj8] at hw
          refine a_istore_1 (pc := 44) C dX2_isDry_44 (by decide) rfl ?_
          refine a_iinc_2 (pc := 45) (v := 1) C dX2_isDry_45 (by decide) (by decide) rfl ?_
          refine a_goto (pc := 48) C 7 dX2_isDry_48 (by decide) ?_
          exact ih _ _ hw
        refine a_if_eq (pc := 16) C 43 dX2_isDry_16 (by decide) (fun c7 => ?_) (fun c7 => ?_)
        · have hw := hw.1 c7
          refine a_iconst (pc := 43) C dX2_isDry_43 ic_0 ?_
          exact hkj8 _ hw
        · have hw := hw.2 c7
          refine a_aload_0 (pc := 19) C dX2_isDry_19 ?_
          refine h_get_places (pc := 20) C q169 dX2_isDry_20 ?_
          refine a_iload_2 (pc := 23) C dX2_isDry_23 ?_
          refine h_iald (pc := 24) C (by decide) hw.1 dX2_isDry_24 ?_
          have hw := hw.2
          refine a_iconst (pc := 25) C dX2_isDry_25 ic_4 ?_
          refine a_icmp_ne (pc := 26) C 39 dX2_isDry_26 (by decide) (fun c10 => ?_) (fun c10 => ?_)
          · have hw := hw.1 c10
            refine a_iconst (pc := 39) C dX2_isDry_39 ic_1 ?_
            refine a_goto (pc := 40) C 44 dX2_isDry_40 (by decide) ?_
            exact hkj8 _ hw
          · have hw := hw.2 c10
            refine a_aload_0 (pc := 29) C dX2_isDry_29 ?_
            refine h_get_wets (pc := 30) C q161 dX2_isDry_30 ?_
            refine a_iload_2 (pc := 33) C dX2_isDry_33 ?_
            refine h_iald (pc := 34) C (by decide) hw.1 dX2_isDry_34 ?_
            have hw := hw.2
            refine a_iconst (pc := 35) C dX2_isDry_35 ic_4 ?_
            refine a_icmp_gt (pc := 36) C 43 dX2_isDry_36 (by decide) (fun c11 => ?_) (fun c11 => ?_)
            · have hw := hw.1 c11
              refine a_iconst (pc := 43) C dX2_isDry_43 ic_0 ?_
              exact hkj8 _ hw
            · have hw := hw.2 c11
              refine a_iconst (pc := 39) C dX2_isDry_39 ic_1 ?_
              refine a_goto (pc := 40) C 44 dX2_isDry_40 (by decide) ?_
              exact hkj8 _ hw
  exact lp7 mF _ _ hw
def wp_X2_hour_L91 (kx23 : Int32 → Int32 → HS → Prop) : Nat → Int32 → Int32 → HS → Prop
  | 0, _, _, _ => False
  | F + 1, x20, x21, σ22 => ((((σ22.1 11 1) ≤ x21) → (kx23 x20 x21 σ22)) ∧ ((¬ (σ22.1 11 1) ≤ x21) → (vp_in x21 12 ∧ (jn (fun (x32 : Int32) (σ33 : HS) => (wp_X2_hour_L91 kx23 F x32 (x21 + 1) σ33)) (fun kj31 => (((¬ (σ22.1 6 x21.toNatClampNeg) = 4) → (kj31 x20 σ22)) ∧ (((σ22.1 6 x21.toNatClampNeg) = 4) → (vp_in x21 12 ∧ ∀ σ34 : HS, σ34 = hU σ22 6 x21.toNatClampNeg 5 → (wp_X2_note 7 x21 σ34 (fun σ35 => (kj31 (x20 + 1) σ35)))))))))))
def wp_X2_hour_L39 (kx9 : Int32 → Int32 → HS → Prop) : Nat → Int32 → Int32 → HS → Prop
  | 0, _, _, _ => False
  | F + 1, x6, x7, σ8 => ((((σ8.1 11 1) ≤ x7) → (kx9 x6 x7 σ8)) ∧ ((¬ (σ8.1 11 1) ≤ x7) → (wp_X2_lotHour x7 σ8 (fun v38 σ37 => (wp_X2_hour_L39 kx9 F (x6 + v38) (x7 + 1) σ37)))))
def wp_X2_hour (σ : HS) (Q : Int32 → HS → Prop) : Prop := (∀ σ1 : HS, σ1 = hU σ 11 2 ((σ.1 11 2) + 1) → (jn (fun (x4 : Int32) => (∀ σ5 : HS, σ5 = hU σ1 11 8 x4 → (jn (fun (x10 : Int32) (x11 : Int32) (σ12 : HS) => (jn (fun (x15 : Int32) => (∀ σ16 : HS, σ16 = hU σ12 11 4 ((σ12.1 11 4) + x15) → (wp_X2_isDry σ16 (fun v18 σ17 => (((v18 = 0) → (Q x10 σ17)) ∧ ((¬ v18 = 0) → (jn (fun (x24 : Int32) (x25 : Int32) (σ26 : HS) => (∀ σ27 : HS, σ27 = hU σ26 11 3 0 → (∀ σ28 : HS, σ28 = hU σ27 11 4 0 → (Q x24 σ28)))) (fun kx23 => wp_X2_hour_L91 kx23 mF x10 0 σ17)))))))) (fun kj14 => ((((σ12.1 11 3) = 0) → (kj14 0)) ∧ ((¬ (σ12.1 11 3) = 0) → (kj14 1)))))) (fun kx9 => wp_X2_hour_L39 kx9 mF 0 0 σ5)))) (fun kj3 => (((¬ ((σ1.1 11 2) - (σ1.1 11 2) / 24 * 24) = 0) → (kj3 (σ1.1 11 8))) ∧ ((((σ1.1 11 2) - (σ1.1 11 2) / 24 * 24) = 0) → (kj3 (σ1.1 11 7)))))))
theorem sg_X2_hour : aSig yX2_hour 0 := by decide +kernel
set_option maxHeartbeats 4000000 in
theorem ct_X2_hour (l : Launch) (G : aG) (a : Nat)  (σ : HS) (Q : Int32 → HS → Prop) (hw : wp_X2_hour  σ Q) (h0 : AH) (n0 u0 : Nat) (hV : HV h0 a σ) : CT l yX2_hour (ws_ yX2_hour cX2_hour 3 (some .int)) 19 G [.ref a] h0 n0 u0 σ.2.2 (2 * σ.2.2) (h_pi Q h0 n0 u0 a σ.2.2) := by
  refine CT.intro [some (.ref a), none, none] pn_RX2 rfl (Nat.le_of_ble_eq_true rfl) ?_
  intro p e s m args below meth c C hz hu
  have hs : s.heap.size = n0 ∧ slT s.heap = u0 := ⟨hz, hu⟩
  refine a_world (V1 := HW h0 n0 u0 a σ.2.2 σ) (HW.start hV) ?_
  unfold wp_X2_hour at hw
  refine a_aload_0 (pc := 0) C dX2_hour_0 ?_
  refine a_dup (pc := 1) C dX2_hour_1 rfl ?_
  refine h_get_time (pc := 2) C q180 dX2_hour_2 ?_
  refine a_iconst (pc := 5) C dX2_hour_5 ic_1 ?_
  refine a_iadd (pc := 6) C dX2_hour_6 ?_
  refine h_put_time (pc := 7) C q180 dX2_hour_7 (fun σ1 eσ1 => ?_)
  have hw := hw σ1 eσ1
  refine a_aload_0 (pc := 10) C dX2_hour_10 ?_
  refine a_aload_0 (pc := 11) C dX2_hour_11 ?_
  refine h_get_time (pc := 12) C q180 dX2_hour_12 ?_
  refine a_bipush (pc := 15) C dX2_hour_15 bc_24 ?_
  refine a_irem (pc := 17) C dX2_hour_17 (by decide) ?_
  refine jn_use hw (fun kj3 ekj3 hw => ?_)
  have hkj3 : ∀ (x4 : Int32), kj3 x4 → AW G p l e (aRm 19 σ.2.2 (2 * σ.2.2)) s m args below meth c (a_A h0 n0) 3 (MQ below (a_Qc G (h_pi Q h0 n0 u0 a σ.2.2) (a_A h0 n0)) args s σ.2.2 (2 * σ.2.2) (a_A h0 n0)) (HW h0 n0 u0 a σ.2.2 σ1) 32 [some (.ref a), none, none] [.int x4, .ref a] := by
    intro x4 hw
    rw [ekj3] at hw
    refine h_put_left (pc := 32) C q192 dX2_hour_32 (fun σ5 eσ5 => ?_)
    have hw := hw σ5 eσ5
    refine a_iconst (pc := 35) C dX2_hour_35 ic_0 ?_
    refine a_istore_1 (pc := 36) C dX2_hour_36 (by decide) rfl ?_
    refine a_iconst (pc := 37) C dX2_hour_37 ic_0 ?_
    refine a_istore_2 (pc := 38) C dX2_hour_38 (by decide) rfl ?_
    refine jn_use hw (fun kx9 ekx9 hw => ?_)
    have hkx9 : ∀ (x10 : Int32) (x11 : Int32) (σ12 : HS), kx9 x10 x11 σ12 → AW G p l e (aRm 19 σ.2.2 (2 * σ.2.2)) s m args below meth c (a_A h0 n0) 3 (MQ below (a_Qc G (h_pi Q h0 n0 u0 a σ.2.2) (a_A h0 n0)) args s σ.2.2 (2 * σ.2.2) (a_A h0 n0)) (HW h0 n0 u0 a σ.2.2 σ12) 61 [some (.ref a), some (.int x10), some (.int x11)] [] := by
      intro x10 x11 σ12 hw
      rw [ekx9] at hw
      refine a_aload_0 (pc := 61) C dX2_hour_61 ?_
      refine a_dup (pc := 62) C dX2_hour_62 rfl ?_
      refine h_get_litFor (pc := 63) C q184 dX2_hour_63 ?_
      refine a_aload_0 (pc := 66) C dX2_hour_66 ?_
      refine h_get_isLit (pc := 67) C q182 dX2_hour_67 ?_
      refine jn_use hw (fun kj14 ekj14 hw => ?_)
      have hkj14 : ∀ (x15 : Int32), kj14 x15 → AW G p l e (aRm 19 σ.2.2 (2 * σ.2.2)) s m args below meth c (a_A h0 n0) 3 (MQ below (a_Qc G (h_pi Q h0 n0 u0 a σ.2.2) (a_A h0 n0)) args s σ.2.2 (2 * σ.2.2) (a_A h0 n0)) (HW h0 n0 u0 a σ.2.2 σ12) 78 [some (.ref a), some (.int x10), some (.int x11)] [.int x15, .int (σ12.1 11 4), .ref a] := by
        intro x15 hw
        rw [ekj14] at hw
        refine a_iadd (pc := 78) C dX2_hour_78 ?_
        refine h_put_litFor (pc := 79) C q184 dX2_hour_79 (fun σ16 eσ16 => ?_)
        have hw := hw σ16 eσ16
        refine a_aload_0 (pc := 82) C dX2_hour_82 ?_
        refine h_callV0i (pc := 83) C hs (fun h n u hV => ct_X2_isDry l G a  _ _ hw h n u hV) (by decide) (by decide) rfl (lw_V q1157 q1159 qs20 q66 q1160) sg_X2_isDry (Nat.le_of_ble_eq_true rfl) dX2_hour_83 (fun v18 σ17 hw => ?_)
        refine a_if_eq (pc := 86) C 142 dX2_hour_86 (by decide) (fun c19 => ?_) (fun c19 => ?_)
        · have hw := hw.1 c19
          refine a_iload_1 (pc := 142) C dX2_hour_142 ?_
          exact a_iret C dX2_hour_143 (fun h n u hV => ⟨⟨(_, _), rfl, hw, hV⟩, h_end hs hV⟩)
        · have hw := hw.2 c19
          refine a_iconst (pc := 89) C dX2_hour_89 ic_0 ?_
          refine a_istore_2 (pc := 90) C dX2_hour_90 (by decide) rfl ?_
          refine jn_use hw (fun kx23 ekx23 hw => ?_)
          have hkx23 : ∀ (x24 : Int32) (x25 : Int32) (σ26 : HS), kx23 x24 x25 σ26 → AW G p l e (aRm 19 σ.2.2 (2 * σ.2.2)) s m args below meth c (a_A h0 n0) 3 (MQ below (a_Qc G (h_pi Q h0 n0 u0 a σ.2.2) (a_A h0 n0)) args s σ.2.2 (2 * σ.2.2) (a_A h0 n0)) (HW h0 n0 u0 a σ.2.2 σ26) 132 [some (.ref a), some (.int x24), some (.int x25)] [] := by
            intro x24 x25 σ26 hw
            rw [ekx23] at hw
            refine a_aload_0 (pc := 132) C dX2_hour_132 ?_
            refine a_iconst (pc := 133) C dX2_hour_133 ic_0 ?_
            refine h_put_isLit (pc := 134) C (by decide) q182 dX2_hour_134 (fun σ27 eσ27 => ?_)
            have hw := hw σ27 eσ27
            refine a_aload_0 (pc := 137) C dX2_hour_137 ?_
            refine a_iconst (pc := 138) C dX2_hour_138 ic_0 ?_
            refine h_put_litFor (pc := 139) C q184 dX2_hour_139 (fun σ28 eσ28 => ?_)
            have hw := hw σ28 eσ28
            refine a_iload_1 (pc := 142) C dX2_hour_142 ?_
            exact a_iret C dX2_hour_143 (fun h n u hV => ⟨⟨(_, _), rfl, hw, hV⟩, h_end hs hV⟩)
          have lp91 : ∀ (F : Nat) (x20 : Int32) (x21 : Int32) (σ22 : HS), wp_X2_hour_L91 kx23 F x20 x21 σ22 → AW G p l e (aRm 19 σ.2.2 (2 * σ.2.2)) s m args below meth c (a_A h0 n0) 3 (MQ below (a_Qc G (h_pi Q h0 n0 u0 a σ.2.2) (a_A h0 n0)) args s σ.2.2 (2 * σ.2.2) (a_A h0 n0)) (HW h0 n0 u0 a σ.2.2 σ22) 91 [some (.ref a), some (.int x20), some (.int x21)] [] := by
            intro F
            induction F with
            | zero => intro x20 x21 σ22 hw; exact False.elim hw
            | succ F ih =>
              intro x20 x21 σ22 hw
              rw [wp_X2_hour_L91] at hw
              refine a_iload_2 (pc := 91) C dX2_hour_91 ?_
              refine a_aload_0 (pc := 92) C dX2_hour_92 ?_
              refine h_get_lots (pc := 93) C q178 dX2_hour_93 ?_
              refine a_icmp_ge (pc := 96) C 132 dX2_hour_96 (by decide) (fun c29 => ?_) (fun c29 => ?_)
              · have hw := hw.1 c29
                exact hkx23 _ _ _ hw
              · have hw := hw.2 c29
                refine a_aload_0 (pc := 99) C dX2_hour_99 ?_
                refine h_get_places (pc := 100) C q169 dX2_hour_100 ?_
                refine a_iload_2 (pc := 103) C dX2_hour_103 ?_
                refine h_iald (pc := 104) C (by decide) hw.1 dX2_hour_104 ?_
                have hw := hw.2
                refine a_iconst (pc := 105) C dX2_hour_105 ic_4 ?_
                refine jn_use hw (fun kj31 ekj31 hw => ?_)
                have hkj31 : ∀ (x32 : Int32) (σ33 : HS), kj31 x32 σ33 → AW G p l e (aRm 19 σ.2.2 (2 * σ.2.2)) s m args below meth c (a_A h0 n0) 3 (MQ below (a_Qc G (h_pi Q h0 n0 u0 a σ.2.2) (a_A h0 n0)) args s σ.2.2 (2 * σ.2.2) (a_A h0 n0)) (HW h0 n0 u0 a σ.2.2 σ33) 126 [some (.ref a), some (.int x32), some (.int x21)] [] := by
                  intro x32 σ33 hw
                  rw [ekj31] at hw
                  refine a_iinc_2 (pc := 126) (v := 1) C dX2_hour_126 (by decide) (by decide) rfl ?_
                  refine a_goto (pc := 129) C 91 dX2_hour_129 (by decide) ?_
                  exact ih _ _ _ hw
                refine a_icmp_ne (pc := 106) C 126 dX2_hour_106 (by decide) (fun c30 => ?_) (fun c30 => ?_)
                · have hw := hw.1 c30
                  exact hkj31 _ _ hw
                · have hw := hw.2 c30
                  refine a_aload_0 (pc := 109) C dX2_hour_109 ?_
                  refine h_get_places (pc := 110) C q169 dX2_hour_110 ?_
                  refine a_iload_2 (pc := 113) C dX2_hour_113 ?_
                  refine a_iconst (pc := 114) C dX2_hour_114 ic_5 ?_
                  refine h_iast (pc := 115) C (by decide) hw.1 dX2_hour_115 (fun σ34 eσ34 => ?_)
                  have hw := hw.2 σ34 eσ34
                  refine a_aload_0 (pc := 116) C dX2_hour_116 ?_
                  refine a_bipush (pc := 117) C dX2_hour_117 bc_7 ?_
                  refine a_iload_2 (pc := 119) C dX2_hour_119 ?_
                  refine h_callV2v (pc := 120) C hs (fun h n u hV => ct_X2_note l G a _ _ _ _ hw h n u hV) (by decide) (by decide) rfl (lw_V q1124 q1126 qs18 q66 q1127) sg_X2_note (Nat.le_of_ble_eq_true rfl) dX2_hour_120 (fun σ35 hw => ?_)
                  refine a_iinc_1 (pc := 123) (v := 1) C dX2_hour_123 (by decide) (by decide) rfl ?_
                  exact hkj31 _ _ hw
          exact lp91 mF _ _ _ hw
      refine a_if_eq (pc := 70) C 77 dX2_hour_70 (by decide) (fun c13 => ?_) (fun c13 => ?_)
      · have hw := hw.1 c13
        refine a_iconst (pc := 77) C dX2_hour_77 ic_0 ?_
        exact hkj14 _ hw
      · have hw := hw.2 c13
        refine a_iconst (pc := 73) C dX2_hour_73 ic_1 ?_
        refine a_goto (pc := 74) C 78 dX2_hour_74 (by decide) ?_
        exact hkj14 _ hw
    have lp39 : ∀ (F : Nat) (x6 : Int32) (x7 : Int32) (σ8 : HS), wp_X2_hour_L39 kx9 F x6 x7 σ8 → AW G p l e (aRm 19 σ.2.2 (2 * σ.2.2)) s m args below meth c (a_A h0 n0) 3 (MQ below (a_Qc G (h_pi Q h0 n0 u0 a σ.2.2) (a_A h0 n0)) args s σ.2.2 (2 * σ.2.2) (a_A h0 n0)) (HW h0 n0 u0 a σ.2.2 σ8) 39 [some (.ref a), some (.int x6), some (.int x7)] [] := by
      intro F
      induction F with
      | zero => intro x6 x7 σ8 hw; exact False.elim hw
      | succ F ih =>
        intro x6 x7 σ8 hw
        rw [wp_X2_hour_L39] at hw
        refine a_iload_2 (pc := 39) C dX2_hour_39 ?_
        refine a_aload_0 (pc := 40) C dX2_hour_40 ?_
        refine h_get_lots (pc := 41) C q178 dX2_hour_41 ?_
        refine a_icmp_ge (pc := 44) C 61 dX2_hour_44 (by decide) (fun c36 => ?_) (fun c36 => ?_)
        · have hw := hw.1 c36
          exact hkx9 _ _ _ hw
        · have hw := hw.2 c36
          refine a_iload_1 (pc := 47) C dX2_hour_47 ?_
          refine a_aload_0 (pc := 48) C dX2_hour_48 ?_
          refine a_iload_2 (pc := 49) C dX2_hour_49 ?_
          refine h_callV1i (pc := 50) C hs (fun h n u hV => ct_X2_lotHour l G a _ _ _ hw h n u hV) (by decide) (by decide) rfl (lw_V q1030 q1032 qs12 q66 q1033) sg_X2_lotHour (Nat.le_of_ble_eq_true rfl) dX2_hour_50 (fun v38 σ37 hw => ?_)
          refine a_iadd (pc := 53) C dX2_hour_53 ?_
          refine a_istore_1 (pc := 54) C dX2_hour_54 (by decide) rfl ?_
          refine a_iinc_2 (pc := 55) (v := 1) C dX2_hour_55 (by decide) (by decide) rfl ?_
          refine a_goto (pc := 58) C 39 dX2_hour_58 (by decide) ?_
          exact ih _ _ _ hw
    exact lp39 mF _ _ _ hw
  refine a_if_ne (pc := 18) C 28 dX2_hour_18 (by decide) (fun c2 => ?_) (fun c2 => ?_)
  · have hw := hw.1 c2
    refine a_aload_0 (pc := 28) C dX2_hour_28 ?_
    refine h_get_left (pc := 29) C q192 dX2_hour_29 ?_
    exact hkj3 _ hw
  · have hw := hw.2 c2
    refine a_aload_0 (pc := 21) C dX2_hour_21 ?_
    refine h_get_daily (pc := 22) C q190 dX2_hour_22 ?_
    refine a_goto (pc := 25) C 32 dX2_hour_25 (by decide) ?_
    exact hkj3 _ hw
def wp_X2_add (p1 : Int32) (σ : HS) (Q : Int32 → HS → Prop) : Prop := (∀ σ1 : HS, σ1 = hU σ 11 1 ((σ.1 11 1) + 1) → (vp_in (σ.1 11 1) 12 ∧ ∀ σ2 : HS, σ2 = hU σ1 0 (σ.1 11 1).toNatClampNeg p1 → (vp_in (σ.1 11 1) 12 ∧ ∀ σ3 : HS, σ3 = hU σ2 1 (σ.1 11 1).toNatClampNeg 0 → (vp_in (σ.1 11 1) 12 ∧ ∀ σ4 : HS, σ4 = hU σ3 2 (σ.1 11 1).toNatClampNeg 12 → (vp_in (σ.1 11 1) 12 ∧ ∀ σ5 : HS, σ5 = hU σ4 3 (σ.1 11 1).toNatClampNeg 0 → (vp_in (σ.1 11 1) 12 ∧ ∀ σ6 : HS, σ6 = hU σ5 4 (σ.1 11 1).toNatClampNeg 15 → (vp_in (σ.1 11 1) 12 ∧ ∀ σ7 : HS, σ7 = hU σ6 5 (σ.1 11 1).toNatClampNeg 0 → (vp_in (σ.1 11 1) 12 ∧ ∀ σ8 : HS, σ8 = hU σ7 6 (σ.1 11 1).toNatClampNeg 0 → (Q (σ.1 11 1) σ8)))))))))
theorem sg_X2_add : aSig yX2_add 1 := by decide +kernel
set_option maxHeartbeats 4000000 in
theorem ct_X2_add (l : Launch) (G : aG) (a : Nat) (p1 : Int32) (σ : HS) (Q : Int32 → HS → Prop) (hw : wp_X2_add p1 σ Q) (h0 : AH) (n0 u0 : Nat) (hV : HV h0 a σ) : CT l yX2_add (ws_ yX2_add cX2_add 3 (some .int)) 1 G [.ref a, .int p1] h0 n0 u0 σ.2.2 (2 * σ.2.2) (h_pi Q h0 n0 u0 a σ.2.2) := by
  refine CT.intro [some (.ref a), some (.int p1), none] pn_RX2 rfl (Nat.le_of_ble_eq_true rfl) ?_
  intro p e s m args below meth c C hz hu
  have hs : s.heap.size = n0 ∧ slT s.heap = u0 := ⟨hz, hu⟩
  refine a_world (V1 := HW h0 n0 u0 a σ.2.2 σ) (HW.start hV) ?_
  unfold wp_X2_add at hw
  refine a_aload_0 (pc := 0) C dX2_add_0 ?_
  refine h_get_lots (pc := 1) C q178 dX2_add_1 ?_
  refine a_istore_2 (pc := 4) C dX2_add_4 (by decide) rfl ?_
  refine a_aload_0 (pc := 5) C dX2_add_5 ?_
  refine a_dup (pc := 6) C dX2_add_6 rfl ?_
  refine h_get_lots (pc := 7) C q178 dX2_add_7 ?_
  refine a_iconst (pc := 10) C dX2_add_10 ic_1 ?_
  refine a_iadd (pc := 11) C dX2_add_11 ?_
  refine h_put_lots (pc := 12) C q178 dX2_add_12 (fun σ1 eσ1 => ?_)
  have hw := hw σ1 eσ1
  refine a_aload_0 (pc := 15) C dX2_add_15 ?_
  refine h_get_kernels (pc := 16) C q157 dX2_add_16 ?_
  refine a_iload_2 (pc := 19) C dX2_add_19 ?_
  refine a_iload_1 (pc := 20) C dX2_add_20 ?_
  refine h_iast (pc := 21) C (by decide) hw.1 dX2_add_21 (fun σ2 eσ2 => ?_)
  have hw := hw.2 σ2 eσ2
  refine a_aload_0 (pc := 22) C dX2_add_22 ?_
  refine h_get_rootlets (pc := 23) C q159 dX2_add_23 ?_
  refine a_iload_2 (pc := 26) C dX2_add_26 ?_
  refine a_iconst (pc := 27) C dX2_add_27 ic_0 ?_
  refine h_iast (pc := 28) C (by decide) hw.1 dX2_add_28 (fun σ3 eσ3 => ?_)
  have hw := hw.2 σ3 eσ3
  refine a_aload_0 (pc := 29) C dX2_add_29 ?_
  refine h_get_wets (pc := 30) C q161 dX2_add_30 ?_
  refine a_iload_2 (pc := 33) C dX2_add_33 ?_
  refine a_bipush (pc := 34) C dX2_add_34 bc_12 ?_
  refine h_iast (pc := 36) C (by decide) hw.1 dX2_add_36 (fun σ4 eσ4 => ?_)
  have hw := hw.2 σ4 eσ4
  refine a_aload_0 (pc := 37) C dX2_add_37 ?_
  refine h_get_growths (pc := 38) C q163 dX2_add_38 ?_
  refine a_iload_2 (pc := 41) C dX2_add_41 ?_
  refine a_iconst (pc := 42) C dX2_add_42 ic_0 ?_
  refine h_iast (pc := 43) C (by decide) hw.1 dX2_add_43 (fun σ5 eσ5 => ?_)
  have hw := hw.2 σ5 eσ5
  refine a_aload_0 (pc := 44) C dX2_add_44 ?_
  refine h_get_heats (pc := 45) C q165 dX2_add_45 ?_
  refine a_iload_2 (pc := 48) C dX2_add_48 ?_
  refine a_bipush (pc := 49) C dX2_add_49 bc_15 ?_
  refine h_iast (pc := 51) C (by decide) hw.1 dX2_add_51 (fun σ6 eσ6 => ?_)
  have hw := hw.2 σ6 eσ6
  refine a_aload_0 (pc := 52) C dX2_add_52 ?_
  refine h_get_felts (pc := 53) C q167 dX2_add_53 ?_
  refine a_iload_2 (pc := 56) C dX2_add_56 ?_
  refine a_iconst (pc := 57) C dX2_add_57 ic_0 ?_
  refine h_iast (pc := 58) C (by decide) hw.1 dX2_add_58 (fun σ7 eσ7 => ?_)
  have hw := hw.2 σ7 eσ7
  refine a_aload_0 (pc := 59) C dX2_add_59 ?_
  refine h_get_places (pc := 60) C q169 dX2_add_60 ?_
  refine a_iload_2 (pc := 63) C dX2_add_63 ?_
  refine a_iconst (pc := 64) C dX2_add_64 ic_0 ?_
  refine h_iast (pc := 65) C (by decide) hw.1 dX2_add_65 (fun σ8 eσ8 => ?_)
  have hw := hw.2 σ8 eσ8
  refine a_iload_2 (pc := 66) C dX2_add_66 ?_
  exact a_iret C dX2_add_67 (fun h n u hV => ⟨⟨(_, _), rfl, hw, hV⟩, h_end hs hV⟩)
def wp_X2_isLot (p1 : Int32) (σ : HS) (Q : Int32 → HS → Prop) : Prop := (wp_X1_isWithin p1 0 ((σ.1 11 1) - 1) (fun v1 => ((v1 = 0 ∨ v1 = 1) ∧ (Q v1 σ))))
theorem sg_X2_isLot : aSig yX2_isLot 1 := by decide +kernel
set_option maxHeartbeats 4000000 in
theorem ct_X2_isLot (l : Launch) (G : aG) (a : Nat) (p1 : Int32) (σ : HS) (Q : Int32 → HS → Prop) (hw : wp_X2_isLot p1 σ Q) (h0 : AH) (n0 u0 : Nat) (hV : HV h0 a σ) : CT l yX2_isLot (ws_ yX2_isLot cX2_isLot 2 (some .boolean)) 2 G [.ref a, .int p1] h0 n0 u0 σ.2.2 (2 * σ.2.2) (h_pi Q h0 n0 u0 a σ.2.2) := by
  refine CT.intro [some (.ref a), some (.int p1)] pn_RX2 rfl (Nat.le_of_ble_eq_true rfl) ?_
  intro p e s m args below meth c C hz hu
  have hs : s.heap.size = n0 ∧ slT s.heap = u0 := ⟨hz, hu⟩
  refine a_world (V1 := HW h0 n0 u0 a σ.2.2 σ) (HW.start hV) ?_
  unfold wp_X2_isLot at hw
  refine a_iload_1 (pc := 0) C dX2_isLot_0 ?_
  refine a_iconst (pc := 1) C dX2_isLot_1 ic_0 ?_
  refine a_aload_0 (pc := 2) C dX2_isLot_2 ?_
  refine h_get_lots (pc := 3) C q178 dX2_isLot_3 ?_
  refine a_iconst (pc := 6) C dX2_isLot_6 ic_1 ?_
  refine a_isub (pc := 7) C dX2_isLot_7 ?_
  refine h_callN3p (pc := 8) C hs (fun h n u => ct_X1_isWithin l G _ _ _ _ hw h n u) (by decide) (by decide) q1060 q856 q65 (lw_meth q857) sg_X1_isWithin (Nat.le_of_ble_eq_true rfl) dX2_isLot_8 (fun v1 hw => ?_)
  have hz := hw.1
  have hw := hw.2
  exact a_zret (narrow_bool hz) C dX2_isLot_11 (fun h n u hV => ⟨⟨(_, _), rfl, hw, hV⟩, h_end hs hV⟩)
def wp_X2_whyNotSteep (p1 : Int32) (σ : HS) (Q : Int32 → HS → Prop) : Prop := (vp_in p1 12 ∧ ((((σ.1 6 p1.toNatClampNeg) = 0) → (wp_X2_set 1 σ (fun v3 σ2 => (wp_J16_bitCount v3 (fun v4 => (((¬ v4 = 2) → (Q 0 σ2)) ∧ ((v4 = 2) → (Q 2 σ2)))))))) ∧ ((¬ (σ.1 6 p1.toNatClampNeg) = 0) → (Q 1 σ))))
theorem sg_X2_whyNotSteep : aSig yX2_whyNotSteep 1 := by decide +kernel
set_option maxHeartbeats 4000000 in
theorem ct_X2_whyNotSteep (l : Launch) (G : aG) (a : Nat) (p1 : Int32) (σ : HS) (Q : Int32 → HS → Prop) (hw : wp_X2_whyNotSteep p1 σ Q) (h0 : AH) (n0 u0 : Nat) (hV : HV h0 a σ) : CT l yX2_whyNotSteep (ws_ yX2_whyNotSteep cX2_whyNotSteep 2 (some .int)) 2 G [.ref a, .int p1] h0 n0 u0 σ.2.2 (2 * σ.2.2) (h_pi Q h0 n0 u0 a σ.2.2) := by
  refine CT.intro [some (.ref a), some (.int p1)] pn_RX2 rfl (Nat.le_of_ble_eq_true rfl) ?_
  intro p e s m args below meth c C hz hu
  have hs : s.heap.size = n0 ∧ slT s.heap = u0 := ⟨hz, hu⟩
  refine a_world (V1 := HW h0 n0 u0 a σ.2.2 σ) (HW.start hV) ?_
  unfold wp_X2_whyNotSteep at hw
  refine a_aload_0 (pc := 0) C dX2_whyNotSteep_0 ?_
  refine h_get_places (pc := 1) C q169 dX2_whyNotSteep_1 ?_
  refine a_iload_1 (pc := 4) C dX2_whyNotSteep_4 ?_
  refine h_iald (pc := 5) C (by decide) hw.1 dX2_whyNotSteep_5 ?_
  have hw := hw.2
  refine a_if_eq (pc := 6) C 13 dX2_whyNotSteep_6 (by decide) (fun c1 => ?_) (fun c1 => ?_)
  · have hw := hw.1 c1
    refine a_aload_0 (pc := 13) C dX2_whyNotSteep_13 ?_
    refine a_iconst (pc := 14) C dX2_whyNotSteep_14 ic_1 ?_
    refine h_callV1i (pc := 15) C hs (fun h n u hV => ct_X2_set l G a _ _ _ hw h n u hV) (by decide) (by decide) rfl (lw_V q1335 q1010 q1011 q66 q1012) sg_X2_set (Nat.le_of_ble_eq_true rfl) dX2_whyNotSteep_15 (fun v3 σ2 hw => ?_)
    refine h_callS1p (pc := 18) C hs (fun h n u => ct_J16_bitCount l G _ _ hw h n u) (by decide) (by decide) (lw_S q1336 q1211 q89 q1212) sg_J16_bitCount (Nat.le_of_ble_eq_true rfl) dX2_whyNotSteep_18 (fun v4 hw => ?_)
    refine a_iconst (pc := 21) C dX2_whyNotSteep_21 ic_2 ?_
    refine a_icmp_ne (pc := 22) C 29 dX2_whyNotSteep_22 (by decide) (fun c5 => ?_) (fun c5 => ?_)
    · have hw := hw.1 c5
      refine a_iconst (pc := 29) C dX2_whyNotSteep_29 ic_0 ?_
      exact a_iret C dX2_whyNotSteep_30 (fun h n u hV => ⟨⟨(_, _), rfl, hw, hV⟩, h_end hs hV⟩)
    · have hw := hw.2 c5
      refine a_iconst (pc := 25) C dX2_whyNotSteep_25 ic_2 ?_
      refine a_goto (pc := 26) C 30 dX2_whyNotSteep_26 (by decide) ?_
      exact a_iret C dX2_whyNotSteep_30 (fun h n u hV => ⟨⟨(_, _), rfl, hw, hV⟩, h_end hs hV⟩)
  · have hw := hw.2 c1
    refine a_iconst (pc := 9) C dX2_whyNotSteep_9 ic_1 ?_
    refine a_goto (pc := 10) C 30 dX2_whyNotSteep_10 (by decide) ?_
    exact a_iret C dX2_whyNotSteep_30 (fun h n u hV => ⟨⟨(_, _), rfl, hw, hV⟩, h_end hs hV⟩)
def wp_X2_steep (p1 : Int32) (σ : HS) (Q : Int32 → HS → Prop) : Prop := (wp_X2_bring p1 1 σ (fun σ1 => (vp_in p1 12 ∧ (∀ σ2 : HS, σ2 = hU σ1 11 9 ((σ1.1 11 9) + (σ1.1 0 p1.toNatClampNeg)) → (Q (σ2.1 11 9) σ2)))))
theorem sg_X2_steep : aSig yX2_steep 1 := by decide +kernel
set_option maxHeartbeats 4000000 in
theorem ct_X2_steep (l : Launch) (G : aG) (a : Nat) (p1 : Int32) (σ : HS) (Q : Int32 → HS → Prop) (hw : wp_X2_steep p1 σ Q) (h0 : AH) (n0 u0 : Nat) (hV : HV h0 a σ) : CT l yX2_steep (ws_ yX2_steep cX2_steep 2 (some .int)) 18 G [.ref a, .int p1] h0 n0 u0 σ.2.2 (2 * σ.2.2) (h_pi Q h0 n0 u0 a σ.2.2) := by
  refine CT.intro [some (.ref a), some (.int p1)] pn_RX2 rfl (Nat.le_of_ble_eq_true rfl) ?_
  intro p e s m args below meth c C hz hu
  have hs : s.heap.size = n0 ∧ slT s.heap = u0 := ⟨hz, hu⟩
  refine a_world (V1 := HW h0 n0 u0 a σ.2.2 σ) (HW.start hV) ?_
  unfold wp_X2_steep at hw
  refine a_aload_0 (pc := 0) C dX2_steep_0 ?_
  refine a_iload_1 (pc := 1) C dX2_steep_1 ?_
  refine a_iconst (pc := 2) C dX2_steep_2 ic_1 ?_
  refine h_callV2v (pc := 3) C hs (fun h n u hV => ct_X2_bring l G a _ _ _ _ hw h n u hV) (by decide) (by decide) rfl (lw_V q1116 q1118 qs16 q66 q1119) sg_X2_bring (Nat.le_of_ble_eq_true rfl) dX2_steep_3 (fun σ1 hw => ?_)
  refine a_aload_0 (pc := 6) C dX2_steep_6 ?_
  refine a_dup (pc := 7) C dX2_steep_7 rfl ?_
  refine h_get_steeped (pc := 8) C q194 dX2_steep_8 ?_
  refine a_aload_0 (pc := 11) C dX2_steep_11 ?_
  refine h_get_kernels (pc := 12) C q157 dX2_steep_12 ?_
  refine a_iload_1 (pc := 15) C dX2_steep_15 ?_
  refine h_iald (pc := 16) C (by decide) hw.1 dX2_steep_16 ?_
  have hw := hw.2
  refine a_iadd (pc := 17) C dX2_steep_17 ?_
  refine h_put_steeped (pc := 18) C q194 dX2_steep_18 (fun σ2 eσ2 => ?_)
  have hw := hw σ2 eσ2
  refine a_aload_0 (pc := 21) C dX2_steep_21 ?_
  refine h_get_steeped (pc := 22) C q194 dX2_steep_22 ?_
  exact a_iret C dX2_steep_25 (fun h n u hV => ⟨⟨(_, _), rfl, hw, hV⟩, h_end hs hV⟩)
def wp_X2_whyNotDrum (p1 : Int32) (p2 : Int32) (σ : HS) (Q : Int32 → HS → Prop) : Prop := (vp_in p1 12 ∧ ((((σ.1 6 p1.toNatClampNeg) = 1) → (vp_in p2 4 ∧ ((p2.toNatClampNeg) < 4 ∧ ((((σ.1 7 (p2.toNatClampNeg)) = ((-1))) → (vp_in p1 12 ∧ (((30 ≤ (σ.1 2 p1.toNatClampNeg)) → (Q 0 σ)) ∧ ((¬ 30 ≤ (σ.1 2 p1.toNatClampNeg)) → (Q 3 σ))))) ∧ ((¬ (σ.1 7 (p2.toNatClampNeg)) = ((-1))) → (Q 2 σ)))))) ∧ ((¬ (σ.1 6 p1.toNatClampNeg) = 1) → (wp_X2_isGrowing p1 σ (fun v5 σ4 => (((¬ v5 = 0) → (vp_in p2 4 ∧ ((p2.toNatClampNeg) < 4 ∧ ((((σ4.1 7 (p2.toNatClampNeg)) = ((-1))) → (vp_in p1 12 ∧ (((30 ≤ (σ4.1 2 p1.toNatClampNeg)) → (Q 0 σ4)) ∧ ((¬ 30 ≤ (σ4.1 2 p1.toNatClampNeg)) → (Q 3 σ4))))) ∧ ((¬ (σ4.1 7 (p2.toNatClampNeg)) = ((-1))) → (Q 2 σ4)))))) ∧ ((v5 = 0) → (Q 1 σ4))))))))
theorem sg_X2_whyNotDrum : aSig yX2_whyNotDrum 2 := by decide +kernel
set_option maxHeartbeats 4000000 in
theorem ct_X2_whyNotDrum (l : Launch) (G : aG) (a : Nat) (p1 : Int32) (p2 : Int32) (σ : HS) (Q : Int32 → HS → Prop) (hw : wp_X2_whyNotDrum p1 p2 σ Q) (h0 : AH) (n0 u0 : Nat) (hV : HV h0 a σ) : CT l yX2_whyNotDrum (ws_ yX2_whyNotDrum cX2_whyNotDrum 3 (some .int)) 2 G [.ref a, .int p1, .int p2] h0 n0 u0 σ.2.2 (2 * σ.2.2) (h_pi Q h0 n0 u0 a σ.2.2) := by
  refine CT.intro [some (.ref a), some (.int p1), some (.int p2)] pn_RX2 rfl (Nat.le_of_ble_eq_true rfl) ?_
  intro p e s m args below meth c C hz hu
  have hs : s.heap.size = n0 ∧ slT s.heap = u0 := ⟨hz, hu⟩
  refine a_world (V1 := HW h0 n0 u0 a σ.2.2 σ) (HW.start hV) ?_
  unfold wp_X2_whyNotDrum at hw
  refine a_aload_0 (pc := 0) C dX2_whyNotDrum_0 ?_
  refine h_get_places (pc := 1) C q169 dX2_whyNotDrum_1 ?_
  refine a_iload_1 (pc := 4) C dX2_whyNotDrum_4 ?_
  refine h_iald (pc := 5) C (by decide) hw.1 dX2_whyNotDrum_5 ?_
  have hw := hw.2
  refine a_iconst (pc := 6) C dX2_whyNotDrum_6 ic_1 ?_
  refine a_icmp_eq (pc := 7) C 20 dX2_whyNotDrum_7 (by decide) (fun c1 => ?_) (fun c1 => ?_)
  · have hw := hw.1 c1
    refine a_aload_0 (pc := 20) C dX2_whyNotDrum_20 ?_
    refine h_get_drums (pc := 21) C q171 dX2_whyNotDrum_21 ?_
    refine a_iload_2 (pc := 24) C dX2_whyNotDrum_24 ?_
    refine h_aald (pc := 25) C hw.1 dX2_whyNotDrum_25 ?_
    have hw := hw.2
    refine h_get_lot (pc := 26) C hw.1 q140 dX2_whyNotDrum_26 ?_
    have hw := hw.2
    refine a_iconst (pc := 29) C dX2_whyNotDrum_29 ic_m1 ?_
    refine a_icmp_eq (pc := 30) C 37 dX2_whyNotDrum_30 (by decide) (fun c2 => ?_) (fun c2 => ?_)
    · have hw := hw.1 c2
      refine a_aload_0 (pc := 37) C dX2_whyNotDrum_37 ?_
      refine h_get_wets (pc := 38) C q161 dX2_whyNotDrum_38 ?_
      refine a_iload_1 (pc := 41) C dX2_whyNotDrum_41 ?_
      refine h_iald (pc := 42) C (by decide) hw.1 dX2_whyNotDrum_42 ?_
      have hw := hw.2
      refine a_bipush (pc := 43) C dX2_whyNotDrum_43 bc_30 ?_
      refine a_icmp_ge (pc := 45) C 52 dX2_whyNotDrum_45 (by decide) (fun c3 => ?_) (fun c3 => ?_)
      · have hw := hw.1 c3
        refine a_iconst (pc := 52) C dX2_whyNotDrum_52 ic_0 ?_
        exact a_iret C dX2_whyNotDrum_53 (fun h n u hV => ⟨⟨(_, _), rfl, hw, hV⟩, h_end hs hV⟩)
      · have hw := hw.2 c3
        refine a_iconst (pc := 48) C dX2_whyNotDrum_48 ic_3 ?_
        refine a_goto (pc := 49) C 53 dX2_whyNotDrum_49 (by decide) ?_
        exact a_iret C dX2_whyNotDrum_53 (fun h n u hV => ⟨⟨(_, _), rfl, hw, hV⟩, h_end hs hV⟩)
    · have hw := hw.2 c2
      refine a_iconst (pc := 33) C dX2_whyNotDrum_33 ic_2 ?_
      refine a_goto (pc := 34) C 53 dX2_whyNotDrum_34 (by decide) ?_
      exact a_iret C dX2_whyNotDrum_53 (fun h n u hV => ⟨⟨(_, _), rfl, hw, hV⟩, h_end hs hV⟩)
  · have hw := hw.2 c1
    refine a_aload_0 (pc := 10) C dX2_whyNotDrum_10 ?_
    refine a_iload_1 (pc := 11) C dX2_whyNotDrum_11 ?_
    refine h_callV1i (pc := 12) C hs (fun h n u hV => ct_X2_isGrowing l G a _ _ _ hw h n u hV) (by decide) (by decide) rfl (lw_V q1056 q1057 q1058 q66 q1059) sg_X2_isGrowing (Nat.le_of_ble_eq_true rfl) dX2_whyNotDrum_12 (fun v5 σ4 hw => ?_)
    refine a_if_ne (pc := 15) C 20 dX2_whyNotDrum_15 (by decide) (fun c6 => ?_) (fun c6 => ?_)
    · have hw := hw.1 c6
      refine a_aload_0 (pc := 20) C dX2_whyNotDrum_20 ?_
      refine h_get_drums (pc := 21) C q171 dX2_whyNotDrum_21 ?_
      refine a_iload_2 (pc := 24) C dX2_whyNotDrum_24 ?_
      refine h_aald (pc := 25) C hw.1 dX2_whyNotDrum_25 ?_
      have hw := hw.2
      refine h_get_lot (pc := 26) C hw.1 q140 dX2_whyNotDrum_26 ?_
      have hw := hw.2
      refine a_iconst (pc := 29) C dX2_whyNotDrum_29 ic_m1 ?_
      refine a_icmp_eq (pc := 30) C 37 dX2_whyNotDrum_30 (by decide) (fun c7 => ?_) (fun c7 => ?_)
      · have hw := hw.1 c7
        refine a_aload_0 (pc := 37) C dX2_whyNotDrum_37 ?_
        refine h_get_wets (pc := 38) C q161 dX2_whyNotDrum_38 ?_
        refine a_iload_1 (pc := 41) C dX2_whyNotDrum_41 ?_
        refine h_iald (pc := 42) C (by decide) hw.1 dX2_whyNotDrum_42 ?_
        have hw := hw.2
        refine a_bipush (pc := 43) C dX2_whyNotDrum_43 bc_30 ?_
        refine a_icmp_ge (pc := 45) C 52 dX2_whyNotDrum_45 (by decide) (fun c8 => ?_) (fun c8 => ?_)
        · have hw := hw.1 c8
          refine a_iconst (pc := 52) C dX2_whyNotDrum_52 ic_0 ?_
          exact a_iret C dX2_whyNotDrum_53 (fun h n u hV => ⟨⟨(_, _), rfl, hw, hV⟩, h_end hs hV⟩)
        · have hw := hw.2 c8
          refine a_iconst (pc := 48) C dX2_whyNotDrum_48 ic_3 ?_
          refine a_goto (pc := 49) C 53 dX2_whyNotDrum_49 (by decide) ?_
          exact a_iret C dX2_whyNotDrum_53 (fun h n u hV => ⟨⟨(_, _), rfl, hw, hV⟩, h_end hs hV⟩)
      · have hw := hw.2 c7
        refine a_iconst (pc := 33) C dX2_whyNotDrum_33 ic_2 ?_
        refine a_goto (pc := 34) C 53 dX2_whyNotDrum_34 (by decide) ?_
        exact a_iret C dX2_whyNotDrum_53 (fun h n u hV => ⟨⟨(_, _), rfl, hw, hV⟩, h_end hs hV⟩)
    · have hw := hw.2 c6
      refine a_iconst (pc := 18) C dX2_whyNotDrum_18 ic_1 ?_
      exact a_iret C dX2_whyNotDrum_19 (fun h n u hV => ⟨⟨(_, _), rfl, hw, hV⟩, h_end hs hV⟩)
def wp_X2_toDrum (p1 : Int32) (p2 : Int32) (σ : HS) (Q : Int32 → HS → Prop) : Prop := (wp_X2_bring p1 2 σ (fun σ1 => (vp_in p2 4 ∧ ((p2.toNatClampNeg) < 4 ∧ ∀ σ2 : HS, σ2 = hU σ1 7 (p2.toNatClampNeg) p1 → (vp_in p1 12 ∧ (Q (σ2.1 2 p1.toNatClampNeg) σ2))))))
theorem sg_X2_toDrum : aSig yX2_toDrum 2 := by decide +kernel
set_option maxHeartbeats 4000000 in
theorem ct_X2_toDrum (l : Launch) (G : aG) (a : Nat) (p1 : Int32) (p2 : Int32) (σ : HS) (Q : Int32 → HS → Prop) (hw : wp_X2_toDrum p1 p2 σ Q) (h0 : AH) (n0 u0 : Nat) (hV : HV h0 a σ) : CT l yX2_toDrum (ws_ yX2_toDrum cX2_toDrum 3 (some .int)) 18 G [.ref a, .int p1, .int p2] h0 n0 u0 σ.2.2 (2 * σ.2.2) (h_pi Q h0 n0 u0 a σ.2.2) := by
  refine CT.intro [some (.ref a), some (.int p1), some (.int p2)] pn_RX2 rfl (Nat.le_of_ble_eq_true rfl) ?_
  intro p e s m args below meth c C hz hu
  have hs : s.heap.size = n0 ∧ slT s.heap = u0 := ⟨hz, hu⟩
  refine a_world (V1 := HW h0 n0 u0 a σ.2.2 σ) (HW.start hV) ?_
  unfold wp_X2_toDrum at hw
  refine a_aload_0 (pc := 0) C dX2_toDrum_0 ?_
  refine a_iload_1 (pc := 1) C dX2_toDrum_1 ?_
  refine a_iconst (pc := 2) C dX2_toDrum_2 ic_2 ?_
  refine h_callV2v (pc := 3) C hs (fun h n u hV => ct_X2_bring l G a _ _ _ _ hw h n u hV) (by decide) (by decide) rfl (lw_V q1116 q1118 qs16 q66 q1119) sg_X2_bring (Nat.le_of_ble_eq_true rfl) dX2_toDrum_3 (fun σ1 hw => ?_)
  refine a_aload_0 (pc := 6) C dX2_toDrum_6 ?_
  refine h_get_drums (pc := 7) C q171 dX2_toDrum_7 ?_
  refine a_iload_2 (pc := 10) C dX2_toDrum_10 ?_
  refine h_aald (pc := 11) C hw.1 dX2_toDrum_11 ?_
  have hw := hw.2
  refine a_iload_1 (pc := 12) C dX2_toDrum_12 ?_
  refine h_put_lot (pc := 13) C hw.1 q140 dX2_toDrum_13 (fun σ2 eσ2 => ?_)
  have hw := hw.2 σ2 eσ2
  refine a_aload_0 (pc := 16) C dX2_toDrum_16 ?_
  refine h_get_wets (pc := 17) C q161 dX2_toDrum_17 ?_
  refine a_iload_1 (pc := 20) C dX2_toDrum_20 ?_
  refine h_iald (pc := 21) C (by decide) hw.1 dX2_toDrum_21 ?_
  have hw := hw.2
  exact a_iret C dX2_toDrum_22 (fun h n u hV => ⟨⟨(_, _), rfl, hw, hV⟩, h_end hs hV⟩)
def wp_X2_canHeap (p1 : Int32) (σ : HS) (Q : Int32 → HS → Prop) : Prop := (vp_in p1 12 ∧ ((((σ.1 6 p1.toNatClampNeg) = 1) → (Q 1 σ)) ∧ ((¬ (σ.1 6 p1.toNatClampNeg) = 1) → (vp_in p1 12 ∧ (((¬ (σ.1 6 p1.toNatClampNeg) = 2) → (Q 0 σ)) ∧ (((σ.1 6 p1.toNatClampNeg) = 2) → (Q 1 σ)))))))
theorem sg_X2_canHeap : aSig yX2_canHeap 1 := by decide +kernel
set_option maxHeartbeats 4000000 in
theorem ct_X2_canHeap (l : Launch) (G : aG) (a : Nat) (p1 : Int32) (σ : HS) (Q : Int32 → HS → Prop) (hw : wp_X2_canHeap p1 σ Q) (h0 : AH) (n0 u0 : Nat) (hV : HV h0 a σ) : CT l yX2_canHeap (ws_ yX2_canHeap cX2_canHeap 2 (some .boolean)) 1 G [.ref a, .int p1] h0 n0 u0 σ.2.2 (2 * σ.2.2) (h_pi Q h0 n0 u0 a σ.2.2) := by
  refine CT.intro [some (.ref a), some (.int p1)] pn_RX2 rfl (Nat.le_of_ble_eq_true rfl) ?_
  intro p e s m args below meth c C hz hu
  have hs : s.heap.size = n0 ∧ slT s.heap = u0 := ⟨hz, hu⟩
  refine a_world (V1 := HW h0 n0 u0 a σ.2.2 σ) (HW.start hV) ?_
  unfold wp_X2_canHeap at hw
  refine a_aload_0 (pc := 0) C dX2_canHeap_0 ?_
  refine h_get_places (pc := 1) C q169 dX2_canHeap_1 ?_
  refine a_iload_1 (pc := 4) C dX2_canHeap_4 ?_
  refine h_iald (pc := 5) C (by decide) hw.1 dX2_canHeap_5 ?_
  have hw := hw.2
  refine a_iconst (pc := 6) C dX2_canHeap_6 ic_1 ?_
  refine a_icmp_eq (pc := 7) C 20 dX2_canHeap_7 (by decide) (fun c1 => ?_) (fun c1 => ?_)
  · have hw := hw.1 c1
    refine a_iconst (pc := 20) C dX2_canHeap_20 ic_1 ?_
    refine a_goto (pc := 21) C 25 dX2_canHeap_21 (by decide) ?_
    exact a_zret rfl C dX2_canHeap_25 (fun h n u hV => ⟨⟨(_, _), rfl, hw, hV⟩, h_end hs hV⟩)
  · have hw := hw.2 c1
    refine a_aload_0 (pc := 10) C dX2_canHeap_10 ?_
    refine h_get_places (pc := 11) C q169 dX2_canHeap_11 ?_
    refine a_iload_1 (pc := 14) C dX2_canHeap_14 ?_
    refine h_iald (pc := 15) C (by decide) hw.1 dX2_canHeap_15 ?_
    have hw := hw.2
    refine a_iconst (pc := 16) C dX2_canHeap_16 ic_2 ?_
    refine a_icmp_ne (pc := 17) C 24 dX2_canHeap_17 (by decide) (fun c2 => ?_) (fun c2 => ?_)
    · have hw := hw.1 c2
      refine a_iconst (pc := 24) C dX2_canHeap_24 ic_0 ?_
      exact a_zret rfl C dX2_canHeap_25 (fun h n u hV => ⟨⟨(_, _), rfl, hw, hV⟩, h_end hs hV⟩)
    · have hw := hw.2 c2
      refine a_iconst (pc := 20) C dX2_canHeap_20 ic_1 ?_
      refine a_goto (pc := 21) C 25 dX2_canHeap_21 (by decide) ?_
      exact a_zret rfl C dX2_canHeap_25 (fun h n u hV => ⟨⟨(_, _), rfl, hw, hV⟩, h_end hs hV⟩)
def wp_X2_toHeap (p1 : Int32) (σ : HS) (Q : Int32 → HS → Prop) : Prop := (wp_X2_bring p1 3 σ (fun σ1 => (wp_X2_set 3 σ1 (fun v3 σ2 => (wp_J16_bitCount v3 (fun v4 => (Q v4 σ2)))))))
theorem sg_X2_toHeap : aSig yX2_toHeap 1 := by decide +kernel
set_option maxHeartbeats 4000000 in
theorem ct_X2_toHeap (l : Launch) (G : aG) (a : Nat) (p1 : Int32) (σ : HS) (Q : Int32 → HS → Prop) (hw : wp_X2_toHeap p1 σ Q) (h0 : AH) (n0 u0 : Nat) (hV : HV h0 a σ) : CT l yX2_toHeap (ws_ yX2_toHeap cX2_toHeap 2 (some .int)) 18 G [.ref a, .int p1] h0 n0 u0 σ.2.2 (2 * σ.2.2) (h_pi Q h0 n0 u0 a σ.2.2) := by
  refine CT.intro [some (.ref a), some (.int p1)] pn_RX2 rfl (Nat.le_of_ble_eq_true rfl) ?_
  intro p e s m args below meth c C hz hu
  have hs : s.heap.size = n0 ∧ slT s.heap = u0 := ⟨hz, hu⟩
  refine a_world (V1 := HW h0 n0 u0 a σ.2.2 σ) (HW.start hV) ?_
  unfold wp_X2_toHeap at hw
  refine a_aload_0 (pc := 0) C dX2_toHeap_0 ?_
  refine a_iload_1 (pc := 1) C dX2_toHeap_1 ?_
  refine a_iconst (pc := 2) C dX2_toHeap_2 ic_3 ?_
  refine h_callV2v (pc := 3) C hs (fun h n u hV => ct_X2_bring l G a _ _ _ _ hw h n u hV) (by decide) (by decide) rfl (lw_V q1116 q1118 qs16 q66 q1119) sg_X2_bring (Nat.le_of_ble_eq_true rfl) dX2_toHeap_3 (fun σ1 hw => ?_)
  refine a_aload_0 (pc := 6) C dX2_toHeap_6 ?_
  refine a_iconst (pc := 7) C dX2_toHeap_7 ic_3 ?_
  refine h_callV1i (pc := 8) C hs (fun h n u hV => ct_X2_set l G a _ _ _ hw h n u hV) (by decide) (by decide) rfl (lw_V q1335 q1010 q1011 q66 q1012) sg_X2_set (Nat.le_of_ble_eq_true rfl) dX2_toHeap_8 (fun v3 σ2 hw => ?_)
  refine h_callS1p (pc := 11) C hs (fun h n u => ct_J16_bitCount l G _ _ hw h n u) (by decide) (by decide) (lw_S q1336 q1211 q89 q1212) sg_J16_bitCount (Nat.le_of_ble_eq_true rfl) dX2_toHeap_11 (fun v4 hw => ?_)
  exact a_iret C dX2_toHeap_14 (fun h n u hV => ⟨⟨(_, _), rfl, hw, hV⟩, h_end hs hV⟩)
def wp_X2_whyNotLoad (p1 : Int32) (σ : HS) (Q : Int32 → HS → Prop) : Prop := (wp_X2_isGrowing p1 σ (fun v2 σ1 => (((¬ v2 = 0) → ((((σ1.1 11 3) = 0) → (wp_X2_weightIn 4 σ1 (fun v6 σ5 => (wp_X2_weight p1 σ5 (fun v8 σ7 => ((((v6 + v8) ≤ 2000) → (vp_in p1 12 ∧ (((40 ≤ (σ7.1 3 p1.toNatClampNeg)) → (Q 0 σ7)) ∧ ((¬ 40 ≤ (σ7.1 3 p1.toNatClampNeg)) → (Q 4 σ7))))) ∧ ((¬ (v6 + v8) ≤ 2000) → (Q 3 σ7)))))))) ∧ ((¬ (σ1.1 11 3) = 0) → (Q 2 σ1)))) ∧ ((v2 = 0) → (Q 1 σ1)))))
theorem sg_X2_whyNotLoad : aSig yX2_whyNotLoad 1 := by decide +kernel
set_option maxHeartbeats 4000000 in
theorem ct_X2_whyNotLoad (l : Launch) (G : aG) (a : Nat) (p1 : Int32) (σ : HS) (Q : Int32 → HS → Prop) (hw : wp_X2_whyNotLoad p1 σ Q) (h0 : AH) (n0 u0 : Nat) (hV : HV h0 a σ) : CT l yX2_whyNotLoad (ws_ yX2_whyNotLoad cX2_whyNotLoad 2 (some .int)) 3 G [.ref a, .int p1] h0 n0 u0 σ.2.2 (2 * σ.2.2) (h_pi Q h0 n0 u0 a σ.2.2) := by
  refine CT.intro [some (.ref a), some (.int p1)] pn_RX2 rfl (Nat.le_of_ble_eq_true rfl) ?_
  intro p e s m args below meth c C hz hu
  have hs : s.heap.size = n0 ∧ slT s.heap = u0 := ⟨hz, hu⟩
  refine a_world (V1 := HW h0 n0 u0 a σ.2.2 σ) (HW.start hV) ?_
  unfold wp_X2_whyNotLoad at hw
  refine a_aload_0 (pc := 0) C dX2_whyNotLoad_0 ?_
  refine a_iload_1 (pc := 1) C dX2_whyNotLoad_1 ?_
  refine h_callV1i (pc := 2) C hs (fun h n u hV => ct_X2_isGrowing l G a _ _ _ hw h n u hV) (by decide) (by decide) rfl (lw_V q1056 q1057 q1058 q66 q1059) sg_X2_isGrowing (Nat.le_of_ble_eq_true rfl) dX2_whyNotLoad_2 (fun v2 σ1 hw => ?_)
  refine a_if_ne (pc := 5) C 10 dX2_whyNotLoad_5 (by decide) (fun c3 => ?_) (fun c3 => ?_)
  · have hw := hw.1 c3
    refine a_aload_0 (pc := 10) C dX2_whyNotLoad_10 ?_
    refine h_get_isLit (pc := 11) C q182 dX2_whyNotLoad_11 ?_
    refine a_if_eq (pc := 14) C 21 dX2_whyNotLoad_14 (by decide) (fun c4 => ?_) (fun c4 => ?_)
    · have hw := hw.1 c4
      refine a_aload_0 (pc := 21) C dX2_whyNotLoad_21 ?_
      refine a_iconst (pc := 22) C dX2_whyNotLoad_22 ic_4 ?_
      refine h_callV1i (pc := 23) C hs (fun h n u hV => ct_X2_weightIn l G a _ _ _ hw h n u hV) (by decide) (by decide) rfl (lw_V q1385 q994 q995 q66 q996) sg_X2_weightIn (Nat.le_of_ble_eq_true rfl) dX2_whyNotLoad_23 (fun v6 σ5 hw => ?_)
      refine a_aload_0 (pc := 26) C dX2_whyNotLoad_26 ?_
      refine a_iload_1 (pc := 27) C dX2_whyNotLoad_27 ?_
      refine h_callV1i (pc := 28) C hs (fun h n u hV => ct_X2_weight l G a _ _ _ hw h n u hV) (by decide) (by decide) rfl (lw_V q997 q998 q999 q66 q1000) sg_X2_weight (Nat.le_of_ble_eq_true rfl) dX2_whyNotLoad_28 (fun v8 σ7 hw => ?_)
      refine a_iadd (pc := 31) C dX2_whyNotLoad_31 ?_
      refine a_sipush (pc := 32) C dX2_whyNotLoad_32 sc_2000 ?_
      refine a_icmp_le (pc := 35) C 42 dX2_whyNotLoad_35 (by decide) (fun c9 => ?_) (fun c9 => ?_)
      · have hw := hw.1 c9
        refine a_aload_0 (pc := 42) C dX2_whyNotLoad_42 ?_
        refine h_get_growths (pc := 43) C q163 dX2_whyNotLoad_43 ?_
        refine a_iload_1 (pc := 46) C dX2_whyNotLoad_46 ?_
        refine h_iald (pc := 47) C (by decide) hw.1 dX2_whyNotLoad_47 ?_
        have hw := hw.2
        refine a_bipush (pc := 48) C dX2_whyNotLoad_48 bc_40 ?_
        refine a_icmp_ge (pc := 50) C 57 dX2_whyNotLoad_50 (by decide) (fun c10 => ?_) (fun c10 => ?_)
        · have hw := hw.1 c10
          refine a_iconst (pc := 57) C dX2_whyNotLoad_57 ic_0 ?_
          exact a_iret C dX2_whyNotLoad_58 (fun h n u hV => ⟨⟨(_, _), rfl, hw, hV⟩, h_end hs hV⟩)
        · have hw := hw.2 c10
          refine a_iconst (pc := 53) C dX2_whyNotLoad_53 ic_4 ?_
          refine a_goto (pc := 54) C 58 dX2_whyNotLoad_54 (by decide) ?_
          exact a_iret C dX2_whyNotLoad_58 (fun h n u hV => ⟨⟨(_, _), rfl, hw, hV⟩, h_end hs hV⟩)
      · have hw := hw.2 c9
        refine a_iconst (pc := 38) C dX2_whyNotLoad_38 ic_3 ?_
        refine a_goto (pc := 39) C 58 dX2_whyNotLoad_39 (by decide) ?_
        exact a_iret C dX2_whyNotLoad_58 (fun h n u hV => ⟨⟨(_, _), rfl, hw, hV⟩, h_end hs hV⟩)
    · have hw := hw.2 c4
      refine a_iconst (pc := 17) C dX2_whyNotLoad_17 ic_2 ?_
      refine a_goto (pc := 18) C 58 dX2_whyNotLoad_18 (by decide) ?_
      exact a_iret C dX2_whyNotLoad_58 (fun h n u hV => ⟨⟨(_, _), rfl, hw, hV⟩, h_end hs hV⟩)
  · have hw := hw.2 c3
    refine a_iconst (pc := 8) C dX2_whyNotLoad_8 ic_1 ?_
    exact a_iret C dX2_whyNotLoad_9 (fun h n u hV => ⟨⟨(_, _), rfl, hw, hV⟩, h_end hs hV⟩)
def wp_X2_load (p1 : Int32) (σ : HS) (Q : Int32 → HS → Prop) : Prop := (wp_X2_bring p1 4 σ (fun σ1 => (wp_X2_weightIn 4 σ1 (fun v3 σ2 => (Q v3 σ2)))))
theorem sg_X2_load : aSig yX2_load 1 := by decide +kernel
set_option maxHeartbeats 4000000 in
theorem ct_X2_load (l : Launch) (G : aG) (a : Nat) (p1 : Int32) (σ : HS) (Q : Int32 → HS → Prop) (hw : wp_X2_load p1 σ Q) (h0 : AH) (n0 u0 : Nat) (hV : HV h0 a σ) : CT l yX2_load (ws_ yX2_load cX2_load 2 (some .int)) 18 G [.ref a, .int p1] h0 n0 u0 σ.2.2 (2 * σ.2.2) (h_pi Q h0 n0 u0 a σ.2.2) := by
  refine CT.intro [some (.ref a), some (.int p1)] pn_RX2 rfl (Nat.le_of_ble_eq_true rfl) ?_
  intro p e s m args below meth c C hz hu
  have hs : s.heap.size = n0 ∧ slT s.heap = u0 := ⟨hz, hu⟩
  refine a_world (V1 := HW h0 n0 u0 a σ.2.2 σ) (HW.start hV) ?_
  unfold wp_X2_load at hw
  refine a_aload_0 (pc := 0) C dX2_load_0 ?_
  refine a_iload_1 (pc := 1) C dX2_load_1 ?_
  refine a_iconst (pc := 2) C dX2_load_2 ic_4 ?_
  refine h_callV2v (pc := 3) C hs (fun h n u hV => ct_X2_bring l G a _ _ _ _ hw h n u hV) (by decide) (by decide) rfl (lw_V q1116 q1118 qs16 q66 q1119) sg_X2_bring (Nat.le_of_ble_eq_true rfl) dX2_load_3 (fun σ1 hw => ?_)
  refine a_aload_0 (pc := 6) C dX2_load_6 ?_
  refine a_iconst (pc := 7) C dX2_load_7 ic_4 ?_
  refine h_callV1i (pc := 8) C hs (fun h n u hV => ct_X2_weightIn l G a _ _ _ hw h n u hV) (by decide) (by decide) rfl (lw_V q1385 q994 q995 q66 q996) sg_X2_weightIn (Nat.le_of_ble_eq_true rfl) dX2_load_8 (fun v3 σ2 hw => ?_)
  exact a_iret C dX2_load_11 (fun h n u hV => ⟨⟨(_, _), rfl, hw, hV⟩, h_end hs hV⟩)
def wp_X2_canLight (σ : HS) (Q : Int32 → HS → Prop) : Prop := (((¬ (σ.1 11 3) = 0) → (Q 0 σ)) ∧ (((σ.1 11 3) = 0) → (wp_X2_set 4 σ (fun v3 σ2 => (((v3 = 0) → (Q 0 σ2)) ∧ ((¬ v3 = 0) → (Q 1 σ2)))))))
theorem sg_X2_canLight : aSig yX2_canLight 0 := by decide +kernel
set_option maxHeartbeats 4000000 in
theorem ct_X2_canLight (l : Launch) (G : aG) (a : Nat)  (σ : HS) (Q : Int32 → HS → Prop) (hw : wp_X2_canLight  σ Q) (h0 : AH) (n0 u0 : Nat) (hV : HV h0 a σ) : CT l yX2_canLight (ws_ yX2_canLight cX2_canLight 1 (some .boolean)) 2 G [.ref a] h0 n0 u0 σ.2.2 (2 * σ.2.2) (h_pi Q h0 n0 u0 a σ.2.2) := by
  refine CT.intro [some (.ref a)] pn_RX2 rfl (Nat.le_of_ble_eq_true rfl) ?_
  intro p e s m args below meth c C hz hu
  have hs : s.heap.size = n0 ∧ slT s.heap = u0 := ⟨hz, hu⟩
  refine a_world (V1 := HW h0 n0 u0 a σ.2.2 σ) (HW.start hV) ?_
  unfold wp_X2_canLight at hw
  refine a_aload_0 (pc := 0) C dX2_canLight_0 ?_
  refine h_get_isLit (pc := 1) C q182 dX2_canLight_1 ?_
  refine a_if_ne (pc := 4) C 19 dX2_canLight_4 (by decide) (fun c1 => ?_) (fun c1 => ?_)
  · have hw := hw.1 c1
    refine a_iconst (pc := 19) C dX2_canLight_19 ic_0 ?_
    exact a_zret rfl C dX2_canLight_20 (fun h n u hV => ⟨⟨(_, _), rfl, hw, hV⟩, h_end hs hV⟩)
  · have hw := hw.2 c1
    refine a_aload_0 (pc := 7) C dX2_canLight_7 ?_
    refine a_iconst (pc := 8) C dX2_canLight_8 ic_4 ?_
    refine h_callV1i (pc := 9) C hs (fun h n u hV => ct_X2_set l G a _ _ _ hw h n u hV) (by decide) (by decide) rfl (lw_V q1335 q1010 q1011 q66 q1012) sg_X2_set (Nat.le_of_ble_eq_true rfl) dX2_canLight_9 (fun v3 σ2 hw => ?_)
    refine a_if_eq (pc := 12) C 19 dX2_canLight_12 (by decide) (fun c4 => ?_) (fun c4 => ?_)
    · have hw := hw.1 c4
      refine a_iconst (pc := 19) C dX2_canLight_19 ic_0 ?_
      exact a_zret rfl C dX2_canLight_20 (fun h n u hV => ⟨⟨(_, _), rfl, hw, hV⟩, h_end hs hV⟩)
    · have hw := hw.2 c4
      refine a_iconst (pc := 15) C dX2_canLight_15 ic_1 ?_
      refine a_goto (pc := 16) C 20 dX2_canLight_16 (by decide) ?_
      exact a_zret rfl C dX2_canLight_20 (fun h n u hV => ⟨⟨(_, _), rfl, hw, hV⟩, h_end hs hV⟩)
def wp_X2_light (σ : HS) (Q : Int32 → HS → Prop) : Prop := (∀ σ1 : HS, σ1 = hU σ 11 3 1 → (∀ σ2 : HS, σ2 = hU σ1 11 4 0 → (wp_X2_set 4 σ2 (fun v4 σ3 => (wp_J16_bitCount v4 (fun v5 => (Q v5 σ3)))))))
theorem sg_X2_light : aSig yX2_light 0 := by decide +kernel
set_option maxHeartbeats 4000000 in
theorem ct_X2_light (l : Launch) (G : aG) (a : Nat)  (σ : HS) (Q : Int32 → HS → Prop) (hw : wp_X2_light  σ Q) (h0 : AH) (n0 u0 : Nat) (hV : HV h0 a σ) : CT l yX2_light (ws_ yX2_light cX2_light 1 (some .int)) 2 G [.ref a] h0 n0 u0 σ.2.2 (2 * σ.2.2) (h_pi Q h0 n0 u0 a σ.2.2) := by
  refine CT.intro [some (.ref a)] pn_RX2 rfl (Nat.le_of_ble_eq_true rfl) ?_
  intro p e s m args below meth c C hz hu
  have hs : s.heap.size = n0 ∧ slT s.heap = u0 := ⟨hz, hu⟩
  refine a_world (V1 := HW h0 n0 u0 a σ.2.2 σ) (HW.start hV) ?_
  unfold wp_X2_light at hw
  refine a_aload_0 (pc := 0) C dX2_light_0 ?_
  refine a_iconst (pc := 1) C dX2_light_1 ic_1 ?_
  refine h_put_isLit (pc := 2) C (by decide) q182 dX2_light_2 (fun σ1 eσ1 => ?_)
  have hw := hw σ1 eσ1
  refine a_aload_0 (pc := 5) C dX2_light_5 ?_
  refine a_iconst (pc := 6) C dX2_light_6 ic_0 ?_
  refine h_put_litFor (pc := 7) C q184 dX2_light_7 (fun σ2 eσ2 => ?_)
  have hw := hw σ2 eσ2
  refine a_aload_0 (pc := 10) C dX2_light_10 ?_
  refine a_iconst (pc := 11) C dX2_light_11 ic_4 ?_
  refine h_callV1i (pc := 12) C hs (fun h n u hV => ct_X2_set l G a _ _ _ hw h n u hV) (by decide) (by decide) rfl (lw_V q1335 q1010 q1011 q66 q1012) sg_X2_set (Nat.le_of_ble_eq_true rfl) dX2_light_12 (fun v4 σ3 hw => ?_)
  refine h_callS1p (pc := 15) C hs (fun h n u => ct_J16_bitCount l G _ _ hw h n u) (by decide) (by decide) (lw_S q1336 q1211 q89 q1212) sg_J16_bitCount (Nat.le_of_ble_eq_true rfl) dX2_light_15 (fun v5 hw => ?_)
  exact a_iret C dX2_light_18 (fun h n u hV => ⟨⟨(_, _), rfl, hw, hV⟩, h_end hs hV⟩)
def wp_X2_whyNotSpray (p1 : Int32) (σ : HS) (Q : Int32 → HS → Prop) : Prop := (wp_X2_isGrowing p1 σ (fun v2 σ1 => (((¬ v2 = 0) → (((¬ (σ1.1 11 8) = 0) → (vp_in p1 12 ∧ (((¬ (σ1.1 6 p1.toNatClampNeg) = 2) → (Q 0 σ1)) ∧ (((σ1.1 6 p1.toNatClampNeg) = 2) → (wp_X2_bed p1 σ1 (fun b7 σ6 => (b7 < 5 ∧ (((¬ (hTurn σ6 b7) = 0) → (Q 0 σ6)) ∧ (((hTurn σ6 b7) = 0) → (Q 3 σ6)))))))))) ∧ (((σ1.1 11 8) = 0) → (Q 2 σ1)))) ∧ ((v2 = 0) → (Q 1 σ1)))))
theorem sg_X2_whyNotSpray : aSig yX2_whyNotSpray 1 := by decide +kernel
set_option maxHeartbeats 4000000 in
theorem ct_X2_whyNotSpray (l : Launch) (G : aG) (a : Nat) (p1 : Int32) (σ : HS) (Q : Int32 → HS → Prop) (hw : wp_X2_whyNotSpray p1 σ Q) (h0 : AH) (n0 u0 : Nat) (hV : HV h0 a σ) : CT l yX2_whyNotSpray (ws_ yX2_whyNotSpray cX2_whyNotSpray 2 (some .int)) 3 G [.ref a, .int p1] h0 n0 u0 σ.2.2 (2 * σ.2.2) (h_pi Q h0 n0 u0 a σ.2.2) := by
  refine CT.intro [some (.ref a), some (.int p1)] pn_RX2 rfl (Nat.le_of_ble_eq_true rfl) ?_
  intro p e s m args below meth c C hz hu
  have hs : s.heap.size = n0 ∧ slT s.heap = u0 := ⟨hz, hu⟩
  refine a_world (V1 := HW h0 n0 u0 a σ.2.2 σ) (HW.start hV) ?_
  unfold wp_X2_whyNotSpray at hw
  refine a_aload_0 (pc := 0) C dX2_whyNotSpray_0 ?_
  refine a_iload_1 (pc := 1) C dX2_whyNotSpray_1 ?_
  refine h_callV1i (pc := 2) C hs (fun h n u hV => ct_X2_isGrowing l G a _ _ _ hw h n u hV) (by decide) (by decide) rfl (lw_V q1056 q1057 q1058 q66 q1059) sg_X2_isGrowing (Nat.le_of_ble_eq_true rfl) dX2_whyNotSpray_2 (fun v2 σ1 hw => ?_)
  refine a_if_ne (pc := 5) C 10 dX2_whyNotSpray_5 (by decide) (fun c3 => ?_) (fun c3 => ?_)
  · have hw := hw.1 c3
    refine a_aload_0 (pc := 10) C dX2_whyNotSpray_10 ?_
    refine h_get_left (pc := 11) C q192 dX2_whyNotSpray_11 ?_
    refine a_if_ne (pc := 14) C 21 dX2_whyNotSpray_14 (by decide) (fun c4 => ?_) (fun c4 => ?_)
    · have hw := hw.1 c4
      refine a_aload_0 (pc := 21) C dX2_whyNotSpray_21 ?_
      refine h_get_places (pc := 22) C q169 dX2_whyNotSpray_22 ?_
      refine a_iload_1 (pc := 25) C dX2_whyNotSpray_25 ?_
      refine h_iald (pc := 26) C (by decide) hw.1 dX2_whyNotSpray_26 ?_
      have hw := hw.2
      refine a_iconst (pc := 27) C dX2_whyNotSpray_27 ic_2 ?_
      refine a_icmp_ne (pc := 28) C 48 dX2_whyNotSpray_28 (by decide) (fun c5 => ?_) (fun c5 => ?_)
      · have hw := hw.1 c5
        refine a_iconst (pc := 48) C dX2_whyNotSpray_48 ic_0 ?_
        exact a_iret C dX2_whyNotSpray_49 (fun h n u hV => ⟨⟨(_, _), rfl, hw, hV⟩, h_end hs hV⟩)
      · have hw := hw.2 c5
        refine a_aload_0 (pc := 31) C dX2_whyNotSpray_31 ?_
        refine a_iload_1 (pc := 32) C dX2_whyNotSpray_32 ?_
        refine h_callV1b (pc := 33) C hs (fun h n u hV => ct_X2_bed l G a _ _ _ hw h n u hV) (by decide) (by decide) rfl (lw_V q1040 q1042 qs14 q66 q1043) sg_X2_bed (Nat.le_of_ble_eq_true rfl) dX2_whyNotSpray_33 (fun b7 σ6 hw => ?_)
        refine h_bed_turn (pc := 36) C hs hw.1 (by decide) q1104 (Nat.le_of_ble_eq_true rfl) dX2_whyNotSpray_36 ?_
        have hw := hw.2
        refine a_if_ne (pc := 41) C 48 dX2_whyNotSpray_41 (by decide) (fun c8 => ?_) (fun c8 => ?_)
        · have hw := hw.1 c8
          refine a_iconst (pc := 48) C dX2_whyNotSpray_48 ic_0 ?_
          exact a_iret C dX2_whyNotSpray_49 (fun h n u hV => ⟨⟨(_, _), rfl, hw, hV⟩, h_end hs hV⟩)
        · have hw := hw.2 c8
          refine a_iconst (pc := 44) C dX2_whyNotSpray_44 ic_3 ?_
          refine a_goto (pc := 45) C 49 dX2_whyNotSpray_45 (by decide) ?_
          exact a_iret C dX2_whyNotSpray_49 (fun h n u hV => ⟨⟨(_, _), rfl, hw, hV⟩, h_end hs hV⟩)
    · have hw := hw.2 c4
      refine a_iconst (pc := 17) C dX2_whyNotSpray_17 ic_2 ?_
      refine a_goto (pc := 18) C 49 dX2_whyNotSpray_18 (by decide) ?_
      exact a_iret C dX2_whyNotSpray_49 (fun h n u hV => ⟨⟨(_, _), rfl, hw, hV⟩, h_end hs hV⟩)
  · have hw := hw.2 c3
    refine a_iconst (pc := 8) C dX2_whyNotSpray_8 ic_1 ?_
    exact a_iret C dX2_whyNotSpray_9 (fun h n u hV => ⟨⟨(_, _), rfl, hw, hV⟩, h_end hs hV⟩)
def wp_X2_spray (p1 : Int32) (σ : HS) (Q : Int32 → HS → Prop) : Prop := (vp_in p1 12 ∧ (vp_in p1 12 ∧ (∀ v1 : Int32, v1 = iMin 48 ((σ.1 2 p1.toNatClampNeg) + 3) → (∀ v2 : Int32, v2 = iMax (σ.1 2 p1.toNatClampNeg) v1 → (vp_in p1 12 ∧ ∀ σ3 : HS, σ3 = hU σ 2 p1.toNatClampNeg v2 → (vp_in p1 12 ∧ (vp_in p1 12 ∧ (∀ v4 : Int32, v4 = iMax 10 ((σ3.1 4 p1.toNatClampNeg) - 2) → (∀ v5 : Int32, v5 = iMin (σ3.1 4 p1.toNatClampNeg) v4 → (vp_in p1 12 ∧ ∀ σ6 : HS, σ6 = hU σ3 4 p1.toNatClampNeg v5 → (∀ σ7 : HS, σ7 = hU σ6 11 8 ((σ6.1 11 8) - 1) → (∀ σ8 : HS, σ8 = hU σ7 11 11 ((σ7.1 11 11) + 1) → (wp_X2_note 5 p1 σ8 (fun σ9 => (Q (σ9.1 11 8) σ9)))))))))))))))
theorem sg_X2_spray : aSig yX2_spray 1 := by decide +kernel
set_option maxHeartbeats 4000000 in
theorem ct_X2_spray (l : Launch) (G : aG) (a : Nat) (p1 : Int32) (σ : HS) (Q : Int32 → HS → Prop) (hw : wp_X2_spray p1 σ Q) (h0 : AH) (n0 u0 : Nat) (hV : HV h0 a σ) : CT l yX2_spray (ws_ yX2_spray cX2_spray 2 (some .int)) 17 G [.ref a, .int p1] h0 n0 u0 σ.2.2 (2 * σ.2.2) (h_pi Q h0 n0 u0 a σ.2.2) := by
  refine CT.intro [some (.ref a), some (.int p1)] pn_RX2 rfl (Nat.le_of_ble_eq_true rfl) ?_
  intro p e s m args below meth c C hz hu
  have hs : s.heap.size = n0 ∧ slT s.heap = u0 := ⟨hz, hu⟩
  refine a_world (V1 := HW h0 n0 u0 a σ.2.2 σ) (HW.start hV) ?_
  unfold wp_X2_spray at hw
  refine a_aload_0 (pc := 0) C dX2_spray_0 ?_
  refine h_get_wets (pc := 1) C q161 dX2_spray_1 ?_
  refine a_iload_1 (pc := 4) C dX2_spray_4 ?_
  refine a_aload_0 (pc := 5) C dX2_spray_5 ?_
  refine h_get_wets (pc := 6) C q161 dX2_spray_6 ?_
  refine a_iload_1 (pc := 9) C dX2_spray_9 ?_
  refine h_iald (pc := 10) C (by decide) hw.1 dX2_spray_10 ?_
  have hw := hw.2
  refine a_bipush (pc := 11) C dX2_spray_11 bc_48 ?_
  refine a_aload_0 (pc := 13) C dX2_spray_13 ?_
  refine h_get_wets (pc := 14) C q161 dX2_spray_14 ?_
  refine a_iload_1 (pc := 17) C dX2_spray_17 ?_
  refine h_iald (pc := 18) C (by decide) hw.1 dX2_spray_18 ?_
  have hw := hw.2
  refine a_iconst (pc := 19) C dX2_spray_19 ic_3 ?_
  refine a_iadd (pc := 20) C dX2_spray_20 ?_
  refine a_mmin (pc := 21) C (by decide) (fun h n u hV => h_end hs hV) q1038 (Nat.le_of_ble_eq_true rfl) dX2_spray_21 (a_topi (fun v1 ev1 => ?_))
  have hw := hw v1 ev1
  refine a_mmax (pc := 24) C (by decide) (fun h n u hV => h_end hs hV) q1039 (Nat.le_of_ble_eq_true rfl) dX2_spray_24 (a_topi (fun v2 ev2 => ?_))
  have hw := hw v2 ev2
  refine h_iast (pc := 27) C (by decide) hw.1 dX2_spray_27 (fun σ3 eσ3 => ?_)
  have hw := hw.2 σ3 eσ3
  refine a_aload_0 (pc := 28) C dX2_spray_28 ?_
  refine h_get_heats (pc := 29) C q165 dX2_spray_29 ?_
  refine a_iload_1 (pc := 32) C dX2_spray_32 ?_
  refine a_aload_0 (pc := 33) C dX2_spray_33 ?_
  refine h_get_heats (pc := 34) C q165 dX2_spray_34 ?_
  refine a_iload_1 (pc := 37) C dX2_spray_37 ?_
  refine h_iald (pc := 38) C (by decide) hw.1 dX2_spray_38 ?_
  have hw := hw.2
  refine a_bipush (pc := 39) C dX2_spray_39 bc_10 ?_
  refine a_aload_0 (pc := 41) C dX2_spray_41 ?_
  refine h_get_heats (pc := 42) C q165 dX2_spray_42 ?_
  refine a_iload_1 (pc := 45) C dX2_spray_45 ?_
  refine h_iald (pc := 46) C (by decide) hw.1 dX2_spray_46 ?_
  have hw := hw.2
  refine a_iconst (pc := 47) C dX2_spray_47 ic_2 ?_
  refine a_isub (pc := 48) C dX2_spray_48 ?_
  refine a_mmax (pc := 49) C (by decide) (fun h n u hV => h_end hs hV) q1039 (Nat.le_of_ble_eq_true rfl) dX2_spray_49 (a_topi (fun v4 ev4 => ?_))
  have hw := hw v4 ev4
  refine a_mmin (pc := 52) C (by decide) (fun h n u hV => h_end hs hV) q1038 (Nat.le_of_ble_eq_true rfl) dX2_spray_52 (a_topi (fun v5 ev5 => ?_))
  have hw := hw v5 ev5
  refine h_iast (pc := 55) C (by decide) hw.1 dX2_spray_55 (fun σ6 eσ6 => ?_)
  have hw := hw.2 σ6 eσ6
  refine a_aload_0 (pc := 56) C dX2_spray_56 ?_
  refine a_dup (pc := 57) C dX2_spray_57 rfl ?_
  refine h_get_left (pc := 58) C q192 dX2_spray_58 ?_
  refine a_iconst (pc := 61) C dX2_spray_61 ic_1 ?_
  refine a_isub (pc := 62) C dX2_spray_62 ?_
  refine h_put_left (pc := 63) C q192 dX2_spray_63 (fun σ7 eσ7 => ?_)
  have hw := hw σ7 eσ7
  refine a_aload_0 (pc := 66) C dX2_spray_66 ?_
  refine a_dup (pc := 67) C dX2_spray_67 rfl ?_
  refine h_get_sprays (pc := 68) C q198 dX2_spray_68 ?_
  refine a_iconst (pc := 71) C dX2_spray_71 ic_1 ?_
  refine a_iadd (pc := 72) C dX2_spray_72 ?_
  refine h_put_sprays (pc := 73) C q198 dX2_spray_73 (fun σ8 eσ8 => ?_)
  have hw := hw σ8 eσ8
  refine a_aload_0 (pc := 76) C dX2_spray_76 ?_
  refine a_iconst (pc := 77) C dX2_spray_77 ic_5 ?_
  refine a_iload_1 (pc := 78) C dX2_spray_78 ?_
  refine h_callV2v (pc := 79) C hs (fun h n u hV => ct_X2_note l G a _ _ _ _ hw h n u hV) (by decide) (by decide) rfl (lw_V q1124 q1126 qs18 q66 q1127) sg_X2_note (Nat.le_of_ble_eq_true rfl) dX2_spray_79 (fun σ9 hw => ?_)
  refine a_aload_0 (pc := 82) C dX2_spray_82 ?_
  refine h_get_left (pc := 83) C q192 dX2_spray_83 ?_
  exact a_iret C dX2_spray_86 (fun h n u hV => ⟨⟨(_, _), rfl, hw, hV⟩, h_end hs hV⟩)
def wp_X2_pass_L4 (kx4 : Int32 → Int32 → HS → Prop) (p1 : Int32) : Nat → Int32 → Int32 → HS → Prop
  | 0, _, _, _ => False
  | F + 1, x1, x2, σ3 => (((p1 ≤ x2) → (kx4 x1 x2 σ3)) ∧ ((¬ p1 ≤ x2) → (wp_X2_hour σ3 (fun v10 σ9 => (wp_X2_pass_L4 kx4 p1 F (x1 + v10) (x2 + 1) σ9)))))
def wp_X2_pass (p1 : Int32) (σ : HS) (Q : Int32 → HS → Prop) : Prop := (jn (fun (x5 : Int32) (x6 : Int32) (σ7 : HS) => (Q x5 σ7)) (fun kx4 => wp_X2_pass_L4 kx4 p1 mF 0 0 σ))
theorem sg_X2_pass : aSig yX2_pass 1 := by decide +kernel
set_option maxHeartbeats 4000000 in
theorem ct_X2_pass (l : Launch) (G : aG) (a : Nat) (p1 : Int32) (σ : HS) (Q : Int32 → HS → Prop) (hw : wp_X2_pass p1 σ Q) (h0 : AH) (n0 u0 : Nat) (hV : HV h0 a σ) : CT l yX2_pass (ws_ yX2_pass cX2_pass 4 (some .int)) 20 G [.ref a, .int p1] h0 n0 u0 σ.2.2 (2 * σ.2.2) (h_pi Q h0 n0 u0 a σ.2.2) := by
  refine CT.intro [some (.ref a), some (.int p1), none, none] pn_RX2 rfl (Nat.le_of_ble_eq_true rfl) ?_
  intro p e s m args below meth c C hz hu
  have hs : s.heap.size = n0 ∧ slT s.heap = u0 := ⟨hz, hu⟩
  refine a_world (V1 := HW h0 n0 u0 a σ.2.2 σ) (HW.start hV) ?_
  unfold wp_X2_pass at hw
  refine a_iconst (pc := 0) C dX2_pass_0 ic_0 ?_
  refine a_istore_2 (pc := 1) C dX2_pass_1 (by decide) rfl ?_
  refine a_iconst (pc := 2) C dX2_pass_2 ic_0 ?_
  refine a_istore_3 (pc := 3) C dX2_pass_3 (by decide) rfl ?_
  refine jn_use hw (fun kx4 ekx4 hw => ?_)
  have hkx4 : ∀ (x5 : Int32) (x6 : Int32) (σ7 : HS), kx4 x5 x6 σ7 → AW G p l e (aRm 20 σ.2.2 (2 * σ.2.2)) s m args below meth c (a_A h0 n0) 4 (MQ below (a_Qc G (h_pi Q h0 n0 u0 a σ.2.2) (a_A h0 n0)) args s σ.2.2 (2 * σ.2.2) (a_A h0 n0)) (HW h0 n0 u0 a σ.2.2 σ7) 22 [some (.ref a), some (.int p1), some (.int x5), some (.int x6)] [] := by
    intro x5 x6 σ7 hw
    rw [ekx4] at hw
    refine a_iload_2 (pc := 22) C dX2_pass_22 ?_
    exact a_iret C dX2_pass_23 (fun h n u hV => ⟨⟨(_, _), rfl, hw, hV⟩, h_end hs hV⟩)
  have lp4 : ∀ (F : Nat) (x1 : Int32) (x2 : Int32) (σ3 : HS), wp_X2_pass_L4 kx4 p1 F x1 x2 σ3 → AW G p l e (aRm 20 σ.2.2 (2 * σ.2.2)) s m args below meth c (a_A h0 n0) 4 (MQ below (a_Qc G (h_pi Q h0 n0 u0 a σ.2.2) (a_A h0 n0)) args s σ.2.2 (2 * σ.2.2) (a_A h0 n0)) (HW h0 n0 u0 a σ.2.2 σ3) 4 [some (.ref a), some (.int p1), some (.int x1), some (.int x2)] [] := by
    intro F
    induction F with
    | zero => intro x1 x2 σ3 hw; exact False.elim hw
    | succ F ih =>
      intro x1 x2 σ3 hw
      rw [wp_X2_pass_L4] at hw
      refine a_iload_3 (pc := 4) C dX2_pass_4 ?_
      refine a_iload_1 (pc := 5) C dX2_pass_5 ?_
      refine a_icmp_ge (pc := 6) C 22 dX2_pass_6 (by decide) (fun c8 => ?_) (fun c8 => ?_)
      · have hw := hw.1 c8
        exact hkx4 _ _ _ hw
      · have hw := hw.2 c8
        refine a_iload_2 (pc := 9) C dX2_pass_9 ?_
        refine a_aload_0 (pc := 10) C dX2_pass_10 ?_
        refine h_callV0i (pc := 11) C hs (fun h n u hV => ct_X2_hour l G a  _ _ hw h n u hV) (by decide) (by decide) rfl (lw_V q1469 q1027 q1028 q66 q1029) sg_X2_hour (Nat.le_of_ble_eq_true rfl) dX2_pass_11 (fun v10 σ9 hw => ?_)
        refine a_iadd (pc := 14) C dX2_pass_14 ?_
        refine a_istore_2 (pc := 15) C dX2_pass_15 (by decide) rfl ?_
        refine a_iinc_3 (pc := 16) (v := 1) C dX2_pass_16 (by decide) (by decide) rfl ?_
        refine a_goto (pc := 19) C 4 dX2_pass_19 (by decide) ?_
        exact ih _ _ _ hw
  exact lp4 mF _ _ _ hw
