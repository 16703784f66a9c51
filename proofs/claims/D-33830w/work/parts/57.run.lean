set_option maxRecDepth 100000
/-! WALKS IN THE WIDE WORLD: by program -/
theorem sg_addLs : aSig yLs_add 1 := by decide +kernel
theorem sg_getLs : aSig yLs_get 1 := by decide +kernel
theorem sg_sizeLs : aSig yLs_size 0 := by decide +kernel
def wp_X8_orders_L21 (kx9 : OS → Prop) (a : Nat) (q1 : Nat) (G : aG) (X : Nat → OS → Prop) : Nat → OS → Prop
  | 0, _ => False
  | F + 1, σ8 => (∃ x17 : Int32, oF σ8 a 6 0 (.int x17) ∧ (∃ r18 : Nat, oF σ8 a 6 2 (.ref r18) ∧ (∃ r19 : Nat, oF σ8 r18 0 3 (.ref r19) ∧ (oC σ8 r19 10 ∧ wp_J4_length r19 σ8 (fun v21 σ20 => (((v21 ≤ x17) → (kx9 σ20)) ∧ ((¬ v21 ≤ x17) → (oC σ20 a 6 ∧ wp_X8_sign a 44 44 σ20 (fun v24 σ23 => (oC σ23 a 6 ∧ wp_X8_order a σ23 (fun r26 σ25 => (oC σ25 q1 12 ∧ wp_J22_add G q1 r26 σ25 (fun v28 σ27 => (wp_X8_orders_L21 kx9 a q1 G X F σ27)))) (fun k9 σx => k9 = 3 ∧ ∃ (fs : List Value) (atv : Int32), σx.1 a = some (.inr (6, fs)) ∧ fs[0]? = some (.int atv) ∧ 1 < fs.length ∧ X 3 (oXs (oPut σx a (.inr (6, fs.set 1 (.int atv)))) 0)))) (fun k9 σx => k9 = 3 ∧ ∃ (fs : List Value) (atv : Int32), σx.1 a = some (.inr (6, fs)) ∧ fs[0]? = some (.int atv) ∧ 1 < fs.length ∧ X 3 (oXs (oPut σx a (.inr (6, fs.set 1 (.int atv)))) 0))))))))))
def wp_X8_orders (G : aG) (a : Nat) (σ : OS) (Q : Nat → OS → Prop) (X : Nat → OS → Prop) : Prop := (1 ≤ σ.2.2.1 ∧ ∀ q1 : Nat, oFr σ q1 → (σ.2.2.2.1 ≠ 0 → q1 = σ.2.2.2.1) → ∀ σ2 : OS, σ2 = oNew σ q1 1 (.inr (12, [.int 0, .null, .int 0])) → wp_J22_init G q1 σ2 (fun σ3 => (oC σ3 a 6 ∧ wp_X8_order a σ3 (fun r5 σ4 => (oC σ4 q1 12 ∧ wp_J22_add G q1 r5 σ4 (fun v7 σ6 => (jn (fun (σ10 : OS) => (((((1 : Int32)) = 0) → (∃ x12 : Int32, oF σ10 a 6 0 (.int x12) ∧ (∃ fs14 : List Value, σ10.1 a = some (.inr (6, fs14)) ∧ 1 < fs14.length ∧ ∀ σ13 : OS, σ13 = (oPut σ10 a (.inr (6, fs14.set 1 (.int x12)))) → (Q q1 σ13)))) ∧ ((¬ ((1 : Int32)) = 0) → (∃ fs16 : List Value, σ10.1 a = some (.inr (6, fs16)) ∧ 1 < fs16.length ∧ ∀ σ15 : OS, σ15 = (oPut σ10 a (.inr (6, fs16.set 1 (.int ((-1)))))) → (Q q1 σ15))))) (fun kx9 => wp_X8_orders_L21 kx9 a q1 G X mF σ6))))) (fun k9 σx => k9 = 3 ∧ ∃ (fs : List Value) (atv : Int32), σx.1 a = some (.inr (6, fs)) ∧ fs[0]? = some (.int atv) ∧ 1 < fs.length ∧ X 3 (oXs (oPut σx a (.inr (6, fs.set 1 (.int atv)))) 0)))))
theorem sg_X8_orders : aSig yX8_orders 0 := by decide +kernel
set_option maxHeartbeats 4000000 in
theorem ct_X8_orders (l : Launch) (G : aG) (a : Nat) (E : Nat → Prop) (σ : OS) (Q : Nat → OS → Prop) (X : Nat → OS → Prop) (hw : wp_X8_orders G a σ Q X) (h0 : AH) (n0 u0 : Nat) (hB : OB h0 n0 E σ) : CTX l yX8_orders (wsW_ yX8_orders cX8_orders 4 (some (.object "java/util/List")) [(10, 63, 82, 0)]) 9 G [.ref a] h0 n0 u0 σ.2.2.1 (10 * σ.2.2.1) (o_pr Q h0 n0 u0 E σ.2.2.1) (o_px X h0 E) := by
  refine CTX.introW [some (.ref a), none, none, none] pn_RX8 rfl (Nat.le_of_ble_eq_true rfl) ?_
  intro p e s m args below meth c C hz hu ht
  have hs : s.heap.size = n0 ∧ slT s.heap = u0 := ⟨hz, hu⟩
  refine a_world (V1 := OW h0 n0 u0 E σ.2.2.1 σ) (OW.start hB) ?_
  unfold wp_X8_orders at hw
  refine o_newC (pc := 0) C hs 1 in_J22 tyJ22 tyJ22_ok q690 q691 q97 (ci := 12) (fs := [.int 0, .null, .int 0]) rfl (by decide) (fun f z => by cases z) (by decide) (by decide) hw.1 dX8_orders_0 (fun q1 frq1 nxq1 σ2 eσ2 => ?_)
  have hw := hw.2 q1 frq1 nxq1 σ2 eσ2
  refine a_dup (pc := 3) C dX8_orders_3 rfl ?_
  refine o_callIv (pc := 4) C hs [] (b := q1) (st := [.ref q1]) (fun h n u hB => ct_J22_init l G q1 E _ _ hw h n u hB) (by decide) (by decide) q97 q692 q693 rfl (lw_meth q694) sg_J22_init (Nat.le_of_ble_eq_true rfl) dX8_orders_4 (fun σ3 hw => ?_)
  refine a_astore_1 (pc := 7) C dX8_orders_7 (by decide) rfl ?_
  refine a_iconst (pc := 8) C dX8_orders_8 ic_0 ?_
  refine a_istore_2 (pc := 9) C dX8_orders_9 (by decide) rfl ?_
  refine a_aload_1 (pc := 10) C dX8_orders_10 ?_
  refine a_aload_0 (pc := 11) C dX8_orders_11 ?_
  refine o_callXVr (pc := 12) C hs [] (b := a) (ci := 6) (st := [.ref q1]) (fun h n u hB => ct_X8_order l G a E _ _ _ hw.2 h n u hB) (by decide) (by decide) rfl hw.1 q95 q713 q715 qs1 (lw_meth q716) sg_X8_order (Nat.le_of_ble_eq_true rfl) dX8_orders_12 (fun r5 σ4 hw => ?_) (fun k9 σx hx => ?_)
  · refine o_callFi (pc := 15) C hs [.ref r5] (b := q1) (ci := 12) (r0 := (RJ22, TJ22, 3)) (y1 := yJ22_add) (st := []) (fun h n u hB => ct_J22_add l G q1 _ E _ _ hw.2 h n u hB) (by decide) (by decide) rfl hw.1 (List.mem_of_getElem? (i := 5) rfl) (lw_F q901 q905 q907 q97 q909) sg_addLs (Nat.le_of_ble_eq_true rfl) dX8_orders_15 (fun v7 σ6 hw => ?_)
    refine a_pop (pc := 20) C dX8_orders_20 rfl ?_
    refine jn_use hw (fun kx9 ekx9 hw => ?_)
    have hkx9 : ∀ (σ10 : OS), kx9 σ10 → AW G p l e (aRm 9 σ.2.2.1 (10 * σ.2.2.1)) s m args below meth c (a_A h0 n0) 4 (vx_MQ below (a_Qc G (o_pr Q h0 n0 u0 E σ.2.2.1) (a_A h0 n0)) (a_XC G (o_px X h0 E) (a_A h0 n0)) args s σ.2.2.1 (10 * σ.2.2.1) (a_A h0 n0)) (OW h0 n0 u0 E σ.2.2.1 σ10) 61 [some (.ref a), some (.ref q1), some (.int 0), none] [] := by
      intro σ10 hw
      rw [ekx9] at hw
      refine a_iconst (pc := 61) C dX8_orders_61 ic_1 ?_
      refine a_istore_2 (pc := 62) C dX8_orders_62 (by decide) rfl ?_
      refine a_aload_0 (pc := 63) C dX8_orders_63 ?_
      refine a_iload_2 (pc := 64) C dX8_orders_64 ?_
      refine a_if_eq (pc := 65) C 72 dX8_orders_65 (by decide) (fun c11 => ?_) (fun c11 => ?_)
      · have hw := hw.1 c11
        refine a_aload_0 (pc := 72) C dX8_orders_72 ?_
        obtain ⟨x12, fx12, hw⟩ := hw
        refine a_getf (pc := 73) C (ref := "MaltDrums$Reader") in_X8 (ci := 6) rfl 0 (by decide) q675 rfl (fun h n u hV => o_fld fx12 hV) dX8_orders_73 ?_
        obtain ⟨fs14, ffs14, kfs14, hw⟩ := hw
        refine a_putf (pc := 76) C (ref := "MaltDrums$Reader") (V1 := OW h0 n0 u0 E σ.2.2.1 (oPut σ10 a (.inr (6, fs14.set 1 (.int x12))))) in_X8 tyX8 tyX8_ok nmX8 (ci := 6) rfl 1 (by decide) q676 rfl rfl rfl rfl (fun h n u hV => o_put (by decide) ffs14 kfs14 hV) dX8_orders_76 (o_top (fun σ13 eσ13 => ?_))
        have hw := hw σ13 eσ13
        refine a_goto (pc := 79) C 101 dX8_orders_79 (by decide) ?_
        refine a_aload_1 (pc := 101) C dX8_orders_101 ?_
        exact a_xret (a_aret (Or.inl ⟨_, rfl⟩) (Or.inr ⟨_, rfl⟩) C dX8_orders_102 (fun h n u hV => ⟨⟨(_, _), rfl, hw, hV⟩, o_end hs hV⟩))
      · have hw := hw.2 c11
        refine a_iconst (pc := 68) C dX8_orders_68 ic_m1 ?_
        refine a_goto (pc := 69) C 76 dX8_orders_69 (by decide) ?_
        obtain ⟨fs16, ffs16, kfs16, hw⟩ := hw
        refine a_putf (pc := 76) C (ref := "MaltDrums$Reader") (V1 := OW h0 n0 u0 E σ.2.2.1 (oPut σ10 a (.inr (6, fs16.set 1 (.int ((-1))))))) in_X8 tyX8 tyX8_ok nmX8 (ci := 6) rfl 1 (by decide) q676 rfl rfl rfl rfl (fun h n u hV => o_put (by decide) ffs16 kfs16 hV) dX8_orders_76 (o_top (fun σ15 eσ15 => ?_))
        have hw := hw σ15 eσ15
        refine a_goto (pc := 79) C 101 dX8_orders_79 (by decide) ?_
        refine a_aload_1 (pc := 101) C dX8_orders_101 ?_
        exact a_xret (a_aret (Or.inl ⟨_, rfl⟩) (Or.inr ⟨_, rfl⟩) C dX8_orders_102 (fun h n u hV => ⟨⟨(_, _), rfl, hw, hV⟩, o_end hs hV⟩))
    have lp21 : ∀ (F : Nat) (σ8 : OS), wp_X8_orders_L21 kx9 a q1 G X F σ8 → AW G p l e (aRm 9 σ.2.2.1 (10 * σ.2.2.1)) s m args below meth c (a_A h0 n0) 4 (vx_MQ below (a_Qc G (o_pr Q h0 n0 u0 E σ.2.2.1) (a_A h0 n0)) (a_XC G (o_px X h0 E) (a_A h0 n0)) args s σ.2.2.1 (10 * σ.2.2.1) (a_A h0 n0)) (OW h0 n0 u0 E σ.2.2.1 σ8) 21 [some (.ref a), some (.ref q1), some (.int 0), none] [] := by
      intro F
      induction F with
      | zero => intro σ8 hw; exact False.elim hw
      | succ F ih =>
        intro σ8 hw
        rw [wp_X8_orders_L21] at hw
        refine a_aload_0 (pc := 21) C dX8_orders_21 ?_
        obtain ⟨x17, fx17, hw⟩ := hw
        refine a_getf (pc := 22) C (ref := "MaltDrums$Reader") in_X8 (ci := 6) rfl 0 (by decide) q675 rfl (fun h n u hV => o_fld fx17 hV) dX8_orders_22 ?_
        refine a_aload_0 (pc := 25) C dX8_orders_25 ?_
        obtain ⟨r18, fr18, hw⟩ := hw
        refine a_getf (pc := 26) C (ref := "MaltDrums$Reader") in_X8 (ci := 6) rfl 2 (by decide) q678 rfl (fun h n u hV => o_fld fr18 hV) dX8_orders_26 ?_
        obtain ⟨r19, fr19, hw⟩ := hw
        refine a_getfN (pc := 29) C (ref := "MaltDrums") in_X1 (ci := 0) rfl 3 (by decide) q302 rfl (fun h n u hV => o_fld fr19 hV) dX8_orders_29 ?_
        refine o_callVi (pc := 32) C hs [] (b := r19) (ci := 10) (st := [.int x17]) (fun h n u hB => ct_J4_length l G r19 E _ _ hw.2 h n u hB) (by decide) (by decide) rfl hw.1 q74 q717 q318 q319 (lw_meth q320) sg_J4_length (Nat.le_of_ble_eq_true rfl) dX8_orders_32 (fun v21 σ20 hw => ?_)
        refine a_icmp_ge (pc := 35) C 61 dX8_orders_35 (by decide) (fun c22 => ?_) (fun c22 => ?_)
        · have hw := hw.1 c22
          exact hkx9 _ hw
        · have hw := hw.2 c22
          refine a_aload_0 (pc := 38) C dX8_orders_38 ?_
          refine a_bipush (pc := 39) C dX8_orders_39 bc_44 ?_
          refine a_bipush (pc := 41) C dX8_orders_41 bc_44 ?_
          refine o_callXVi (pc := 43) C hs [.int 44, .int 44] (b := a) (ci := 6) (st := []) (fun h n u hB => ct_X8_sign l G a _ _ E _ _ _ hw.2 h n u hB) (by decide) (by decide) rfl hw.1 q95 q832 q834 qs3 (lw_meth q835) sg_X8_sign (Nat.le_of_ble_eq_true rfl) dX8_orders_43 (fun v24 σ23 hw => ?_) (fun k9 σx hx => ?_)
          · refine a_pop (pc := 46) C dX8_orders_46 rfl ?_
            refine a_aload_1 (pc := 47) C dX8_orders_47 ?_
            refine a_aload_0 (pc := 48) C dX8_orders_48 ?_
            refine o_callXVr (pc := 49) C hs [] (b := a) (ci := 6) (st := [.ref q1]) (fun h n u hB => ct_X8_order l G a E _ _ _ hw.2 h n u hB) (by decide) (by decide) rfl hw.1 q95 q713 q715 qs1 (lw_meth q716) sg_X8_order (Nat.le_of_ble_eq_true rfl) dX8_orders_49 (fun r26 σ25 hw => ?_) (fun k9 σx hx => ?_)
            · refine o_callFi (pc := 52) C hs [.ref r26] (b := q1) (ci := 12) (r0 := (RJ22, TJ22, 3)) (y1 := yJ22_add) (st := []) (fun h n u hB => ct_J22_add l G q1 _ E _ _ hw.2 h n u hB) (by decide) (by decide) rfl hw.1 (List.mem_of_getElem? (i := 5) rfl) (lw_F q901 q905 q907 q97 q909) sg_addLs (Nat.le_of_ble_eq_true rfl) dX8_orders_52 (fun v28 σ27 hw => ?_)
              refine a_pop (pc := 57) C dX8_orders_57 rfl ?_
              refine a_goto (pc := 58) C 21 dX8_orders_58 (by decide) ?_
              exact ih _ hw
            · obtain ⟨rfl, fs, atv, y1, y2, y3, y4⟩ := hx
              exact orders_fin C hs ht (by decide) rfl y1 y2 y3 y4
          · obtain ⟨rfl, fs, atv, y1, y2, y3, y4⟩ := hx
            exact orders_fin C hs ht (by decide) rfl y1 y2 y3 y4
    exact lp21 mF _ hw
  · obtain ⟨rfl, fs, atv, y1, y2, y3, y4⟩ := hx
    exact orders_fin C hs ht (by decide) rfl y1 y2 y3 y4
def wp_X1_fault (G : aG) (a : Nat) (σ : OS) (Q : Int32 → OS → Prop) (X : Nat → OS → Prop) : Prop := (1 ≤ σ.2.2.1 ∧ ∀ q1 : Nat, oFr σ q1 → (σ.2.2.2.1 ≠ 0 → q1 = σ.2.2.2.1) → ∀ σ2 : OS, σ2 = oNew σ q1 1 (.inr (6, [.int 0, .int 0, .null])) → wp_X8_init q1 a σ2 (fun σ3 => (oC σ3 q1 6 ∧ wp_X8_orders G q1 σ3 (fun r5 σ4 => (Q ((-1)) σ4)) (fun k9 σx => (k9 = 3 ∧ ∀ σ6 : OS, σ6 = oXs σx 0 → (∃ x8 : Int32, oF σ6 q1 6 1 (.int x8) ∧ (Q x8 σ6)))))))
theorem sg_X1_fault : aSig yX1_fault 0 := by decide +kernel
set_option maxHeartbeats 4000000 in
theorem ct_X1_fault (l : Launch) (G : aG) (a : Nat) (E : Nat → Prop) (σ : OS) (Q : Int32 → OS → Prop) (X : Nat → OS → Prop) (hw : wp_X1_fault G a σ Q X) (h0 : AH) (n0 u0 : Nat) (hB : OB h0 n0 E σ) : CTX l yX1_fault (wsW_ yX1_fault cX1_fault 3 (some .int) [(9, 14, 17, 189)]) 10 G [.ref a] h0 n0 u0 σ.2.2.1 (10 * σ.2.2.1) (o_pi Q h0 n0 u0 E σ.2.2.1) (o_px X h0 E) := by
  refine CTX.introW [some (.ref a), none, none] pn_RX1 rfl (Nat.le_of_ble_eq_true rfl) ?_
  intro p e s m args below meth c C hz hu ht
  have hs : s.heap.size = n0 ∧ slT s.heap = u0 := ⟨hz, hu⟩
  refine a_world (V1 := OW h0 n0 u0 E σ.2.2.1 σ) (OW.start hB) ?_
  unfold wp_X1_fault at hw
  refine o_newC (pc := 0) C hs 1 in_X8 tyX8 tyX8_ok q669 q670 q95 (ci := 6) (fs := [.int 0, .int 0, .null]) rfl (by decide) (fun f z => by cases z) (by decide) (by decide) hw.1 dX1_fault_0 (fun q1 frq1 nxq1 σ2 eσ2 => ?_)
  have hw := hw.2 q1 frq1 nxq1 σ2 eσ2
  refine a_dup (pc := 3) C dX1_fault_3 rfl ?_
  refine a_aload_0 (pc := 4) C dX1_fault_4 ?_
  refine o_callINv (pc := 5) C hs [.ref a] (b := q1) (st := [.ref q1]) (fun h n u hB => ct_X8_init l G q1 _ E _ _ hw h n u hB) (by decide) (by decide) q671 q672 q95 rfl (lw_meth q673) sg_X8_init (Nat.le_of_ble_eq_true rfl) dX1_fault_5 (fun σ3 hw => ?_)
  refine a_astore_1 (pc := 8) C dX1_fault_8 (by decide) rfl ?_
  refine a_aload_1 (pc := 9) C dX1_fault_9 ?_
  refine o_callXVWr (pc := 10) C hs [] (b := q1) (ci := 6) (st := []) (fun h n u hB => ct_X8_orders l G q1 E _ _ _ hw.2 h n u hB) (by decide) (by decide) rfl hw.1 (lw_VW q686 q687 q688 q95 q689) rfl sg_X8_orders (Nat.le_of_ble_eq_true rfl) dX1_fault_10 (fun r5 σ4 hw => ?_) (fun k9 σx hx => ?_)
  · refine a_pop (pc := 13) C dX1_fault_13 rfl ?_
    refine a_goto (pc := 14) C 23 dX1_fault_14 (by decide) ?_
    refine a_iconst (pc := 23) C dX1_fault_23 ic_m1 ?_
    exact a_xret (a_iret C dX1_fault_24 (fun h n u hV => ⟨⟨(_, _), rfl, hw, hV⟩, o_end hs hV⟩))
  · rcases hx with ⟨rfl, hw⟩
    · refine ax_catch C (tableOf []) ⟨9, 14, 17, 189⟩ (tableOf []) (ht.trans rfl) (fun z hz => nomatch hz) (by decide) (by decide) q668 q860 (fun q7 => o_top (fun σ6 eσ6 => ?_))
      have hw := hw σ6 eσ6
      refine a_astore_2 (pc := 17) C dX1_fault_17 (by decide) rfl ?_
      refine a_aload_1 (pc := 18) C dX1_fault_18 ?_
      obtain ⟨x8, fx8, hw⟩ := hw
      refine a_getfN (pc := 19) C (ref := "MaltDrums$Reader") in_X8 (ci := 6) rfl 1 (by decide) q677 rfl (fun h n u hV => o_fld fx8 hV) dX1_fault_19 ?_
      exact a_xret (a_iret C dX1_fault_22 (fun h n u hV => ⟨⟨(_, _), rfl, hw, hV⟩, o_end hs hV⟩))
def wp_X1_run_L32 (kx9 : Int32 → OS → Prop) (r5 : Nat) (a : Nat) : Nat → Int32 → OS → Prop
  | 0, _, _ => False
  | F + 1, x7, σ8 => (oC σ8 r5 12 ∧ wp_J22_size r5 σ8 (fun v13 σ12 => (((v13 ≤ x7) → (kx9 x7 σ12)) ∧ ((¬ v13 ≤ x7) → (oC σ12 r5 12 ∧ wp_J22_get r5 x7 σ12 (fun r16 σ15 => (oC σ15 r16 7 ∧ (oC σ15 a 0 ∧ wp_X1_can a r16 σ15 (fun v18 σ17 => (((v18 = 0) → (kx9 x7 σ17)) ∧ ((¬ v18 = 0) → (oC σ17 r5 12 ∧ wp_J22_get r5 x7 σ17 (fun r21 σ20 => (oC σ20 r21 7 ∧ (oC σ20 a 0 ∧ wp_X1_does a r21 σ20 (fun σ22 => (wp_X1_run_L32 kx9 r5 a F (x7 + 1) σ22)))))))))))))))))
def wp_X1_run (G : aG) (a : Nat) (σ : OS) (Q : Int32 → OS → Prop) (X : Nat → OS → Prop) : Prop := (1 ≤ σ.2.2.1 ∧ ∀ q1 : Nat, oFr σ q1 → (σ.2.2.2.1 ≠ 0 → q1 = σ.2.2.2.1) → ∀ σ2 : OS, σ2 = oNew σ q1 1 (.inr (6, [.int 0, .int 0, .null])) → wp_X8_init q1 a σ2 (fun σ3 => (oC σ3 q1 6 ∧ 1 ≤ σ3.2.2.1 ∧ wp_X8_orders G q1 (σ3.1, σ3.2.1, σ3.2.2.1 - 1, σ3.2.2.2) (fun r5 σ4 => ∀ σ25 : OS, σ25 = (σ4.1, σ4.2.1, σ4.2.2.1 + (σ3.2.2.1 - (σ3.2.2.1 - 1)), σ4.2.2.2) → (oC σ25 a 0 ∧ wp_X1_save a σ25 (fun σ6 => (jn (fun (x10 : Int32) (σ11 : OS) => (Q x10 σ11)) (fun kx9 => wp_X1_run_L32 kx9 r5 a mF 0 σ6))))) (fun k9 σx => (k9 = 3 ∧ ∀ σ23 : OS, σ23 = oXs σx 1 → (1 ≤ σ23.2.2.1 ∧ X 1 (oXs σ23 0)))))))
theorem sg_X1_run : aSig yX1_run 0 := by decide +kernel
set_option maxHeartbeats 4000000 in
theorem ct_X1_run (l : Launch) (G : aG) (a : Nat) (E : Nat → Prop) (σ : OS) (Q : Int32 → OS → Prop) (X : Nat → OS → Prop) (hw : wp_X1_run G a σ Q X) (h0 : AH) (n0 u0 : Nat) (hB : OB h0 n0 E σ) : CTX l yX1_run (wsW_ yX1_run cX1_run 3 (some .int) [(0, 12, 15, 189)]) 22 G [.ref a] h0 n0 u0 σ.2.2.1 (10 * σ.2.2.1) (o_pi Q h0 n0 u0 E σ.2.2.1) (o_px X h0 E) := by
  refine CTX.introW [some (.ref a), none, none] pn_RX1 rfl (Nat.le_of_ble_eq_true rfl) ?_
  intro p e s m args below meth c C hz hu ht
  have hs : s.heap.size = n0 ∧ slT s.heap = u0 := ⟨hz, hu⟩
  refine a_world (V1 := OW h0 n0 u0 E σ.2.2.1 σ) (OW.start hB) ?_
  unfold wp_X1_run at hw
  refine o_newC (pc := 0) C hs 1 in_X8 tyX8 tyX8_ok q669 q670 q95 (ci := 6) (fs := [.int 0, .int 0, .null]) rfl (by decide) (fun f z => by cases z) (by decide) (by decide) hw.1 dX1_run_0 (fun q1 frq1 nxq1 σ2 eσ2 => ?_)
  have hw := hw.2 q1 frq1 nxq1 σ2 eσ2
  refine a_dup (pc := 3) C dX1_run_3 rfl ?_
  refine a_aload_0 (pc := 4) C dX1_run_4 ?_
  refine o_callINv (pc := 5) C hs [.ref a] (b := q1) (st := [.ref q1]) (fun h n u hB => ct_X8_init l G q1 _ E _ _ hw h n u hB) (by decide) (by decide) q671 q672 q95 rfl (lw_meth q673) sg_X8_init (Nat.le_of_ble_eq_true rfl) dX1_run_5 (fun σ3 hw => ?_)
  refine o_callXVWRr (pc := 8) C hs [] (b := q1) (ci := 6) (st := []) (σ3.2.2.1 - 1) 1 (by have := hw.2.1; omega) (fun h n u hB => ct_X8_orders l G q1  E _ _ _ hw.2.2 h n u hB) (by decide) (by decide) rfl hw.1 (lw_VW q686 q687 q688 q95 q689) rfl sg_X8_orders (Nat.le_of_ble_eq_true rfl) dX1_run_8 (fun r5 σ4 hw => o_top (fun σ25 eσ25 => ?_)) (fun k9 σx hx => ?_)
  · have hw := hw σ25 eσ25
    refine a_astore_1 (pc := 11) C dX1_run_11 (by decide) rfl ?_
    refine a_goto (pc := 12) C 26 dX1_run_12 (by decide) ?_
    refine a_aload_0 (pc := 26) C dX1_run_26 ?_
    refine o_callVv (pc := 27) C hs [] (b := a) (ci := 0) (st := []) (fun h n u hB => ct_X1_save l G a E _ _ hw.2 h n u hB) (by decide) (by decide) rfl hw.1 q65 q1256 q1258 qs22 (lw_meth q1259) sg_X1_save (Nat.le_of_ble_eq_true rfl) dX1_run_27 (fun σ6 hw => ?_)
    refine a_iconst (pc := 30) C dX1_run_30 ic_0 ?_
    refine a_istore_2 (pc := 31) C dX1_run_31 (by decide) rfl ?_
    refine jn_use hw (fun kx9 ekx9 hw => ?_)
    have hkx9 : ∀ (x10 : Int32) (σ11 : OS), kx9 x10 σ11 → AW G p l e (aRm 22 σ.2.2.1 (10 * σ.2.2.1)) s m args below meth c (a_A h0 n0) 3 (vx_MQ below (a_Qc G (o_pi Q h0 n0 u0 E σ.2.2.1) (a_A h0 n0)) (a_XC G (o_px X h0 E) (a_A h0 n0)) args s σ.2.2.1 (10 * σ.2.2.1) (a_A h0 n0)) (OW h0 n0 u0 E σ.2.2.1 σ11) 79 [some (.ref a), some (.ref r5), some (.int x10)] [] := by
      intro x10 σ11 hw
      rw [ekx9] at hw
      refine a_iload_2 (pc := 79) C dX1_run_79 ?_
      exact a_xret (a_iret C dX1_run_80 (fun h n u hV => ⟨⟨(_, _), rfl, hw, hV⟩, o_end hs hV⟩))
    have lp32 : ∀ (F : Nat) (x7 : Int32) (σ8 : OS), wp_X1_run_L32 kx9 r5 a F x7 σ8 → AW G p l e (aRm 22 σ.2.2.1 (10 * σ.2.2.1)) s m args below meth c (a_A h0 n0) 3 (vx_MQ below (a_Qc G (o_pi Q h0 n0 u0 E σ.2.2.1) (a_A h0 n0)) (a_XC G (o_px X h0 E) (a_A h0 n0)) args s σ.2.2.1 (10 * σ.2.2.1) (a_A h0 n0)) (OW h0 n0 u0 E σ.2.2.1 σ8) 32 [some (.ref a), some (.ref r5), some (.int x7)] [] := by
      intro F
      induction F with
      | zero => intro x7 σ8 hw; exact False.elim hw
      | succ F ih =>
        intro x7 σ8 hw
        rw [wp_X1_run_L32] at hw
        refine a_iload_2 (pc := 32) C dX1_run_32 ?_
        refine a_aload_1 (pc := 33) C dX1_run_33 ?_
        refine o_callFi (pc := 34) C hs [] (b := r5) (ci := 12) (r0 := (RJ22, TJ22, 3)) (y1 := yJ22_size) (st := [.int x7]) (fun h n u hB => ct_J22_size l G r5 E _ _ hw.2 h n u hB) (by decide) (by decide) rfl hw.1 (List.mem_of_getElem? (i := 7) rfl) (lw_F q1503 q1506 q1508 q97 q1510) sg_sizeLs (Nat.le_of_ble_eq_true rfl) dX1_run_34 (fun v13 σ12 hw => ?_)
        refine a_icmp_ge (pc := 39) C 79 dX1_run_39 (by decide) (fun c14 => ?_) (fun c14 => ?_)
        · have hw := hw.1 c14
          exact hkx9 _ _ hw
        · have hw := hw.2 c14
          refine a_aload_0 (pc := 42) C dX1_run_42 ?_
          refine a_aload_1 (pc := 43) C dX1_run_43 ?_
          refine a_iload_2 (pc := 44) C dX1_run_44 ?_
          refine o_callFr (pc := 45) C hs [.int x7] (b := r5) (ci := 12) (r0 := (RJ22, TJ22, 3)) (y1 := yJ22_get) (st := [.ref a]) (fun h n u hB => ct_J22_get l G r5 _ E _ _ hw.2 h n u hB) (by decide) (by decide) rfl hw.1 (List.mem_of_getElem? (i := 6) rfl) (lw_F q1512 q1515 q1517 q97 q1519) sg_getLs (Nat.le_of_ble_eq_true rfl) dX1_run_45 (fun r16 σ15 hw => ?_)
          refine a_castS (pc := 50) C (ci := 7) rfl (fun h n u hV => o_cls hw.1 hV) q1528 dX1_run_50 ?_
          have hw := hw.2
          refine o_callVi (pc := 53) C hs [.ref r16] (b := a) (ci := 0) (st := []) (fun h n u hB => ct_X1_can l G a _ E _ _ hw.2 h n u hB) (by decide) (by decide) rfl hw.1 q65 q1529 q1531 qs26 (lw_meth q1532) sg_X1_can (Nat.le_of_ble_eq_true rfl) dX1_run_53 (fun v18 σ17 hw => ?_)
          refine a_if_eq (pc := 56) C 79 dX1_run_56 (by decide) (fun c19 => ?_) (fun c19 => ?_)
          · have hw := hw.1 c19
            exact hkx9 _ _ hw
          · have hw := hw.2 c19
            refine a_aload_0 (pc := 59) C dX1_run_59 ?_
            refine a_aload_1 (pc := 60) C dX1_run_60 ?_
            refine a_iload_2 (pc := 61) C dX1_run_61 ?_
            refine o_callFr (pc := 62) C hs [.int x7] (b := r5) (ci := 12) (r0 := (RJ22, TJ22, 3)) (y1 := yJ22_get) (st := [.ref a]) (fun h n u hB => ct_J22_get l G r5 _ E _ _ hw.2 h n u hB) (by decide) (by decide) rfl hw.1 (List.mem_of_getElem? (i := 6) rfl) (lw_F q1512 q1515 q1517 q97 q1519) sg_getLs (Nat.le_of_ble_eq_true rfl) dX1_run_62 (fun r21 σ20 hw => ?_)
            refine a_castS (pc := 67) C (ci := 7) rfl (fun h n u hV => o_cls hw.1 hV) q1528 dX1_run_67 ?_
            have hw := hw.2
            refine o_callVv (pc := 70) C hs [.ref r21] (b := a) (ci := 0) (st := []) (fun h n u hB => ct_X1_does l G a _ E _ _ hw.2 h n u hB) (by decide) (by decide) rfl hw.1 q65 q1554 q1556 qs27 (lw_meth q1557) sg_X1_does (Nat.le_of_ble_eq_true rfl) dX1_run_70 (fun σ22 hw => ?_)
            refine a_iinc_2 (pc := 73) (v := 1) C dX1_run_73 (by decide) (by decide) rfl ?_
            refine a_goto (pc := 76) C 32 dX1_run_76 (by decide) ?_
            exact ih _ _ hw
    exact lp32 mF _ _ hw
  · rcases hx with ⟨rfl, hw⟩
    · refine ax_catch C (tableOf []) ⟨0, 12, 15, 189⟩ (tableOf []) (ht.trans rfl) (fun z hz => nomatch hz) (by decide) (by decide) q668 q860 (fun q24 => o_top (fun σ23 eσ23 => ?_))
      have hw := hw σ23 eσ23
      refine a_astore_2 (pc := 15) C dX1_run_15 (by decide) rfl ?_
      exact a_throwS (pc := 16) C (cls := "java/lang/IllegalArgumentException") (names := ["java/lang/RuntimeException", "java/lang/Exception"]) (by decide +kernel) (by decide +kernel) q1234 q81 ((C.SC.2.2.2.2.2.2 25 _ rfl).1) (hat_IA C) hgo_IA (by decide) (by decide) dX1_run_16 dX1_run_19 dX1_run_20 dX1_run_22 dX1_run_25 (by rw [ht]; decide) (Nat.le_of_ble_eq_true rfl) (fun h n u hV => ⟨(o_roomN hs (N := 6) (c := 1) (by decide) (by decide) hw.1 h n u hV).1, (o_roomN hs (N := 6) (c := 1) (by decide) (by decide) hw.1 h n u hV).2, ⟨1, _, rfl, hw.2, hV.1.same rfl rfl rfl, hV.2.2.2.2.2.1⟩⟩)
