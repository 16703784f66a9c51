set_option maxRecDepth 100000
/-! WALKS IN THE WIDE WORLD: by program -/
def wp_X8_order (a : Nat) (σ : OS) (Q : Nat → OS → Prop) (X : Nat → OS → Prop) : Prop := (∃ x1 : Int32, oF σ a 6 0 (.int x1) ∧ (∃ r2 : Nat, oF σ a 6 2 (.ref r2) ∧ (∃ r3 : Nat, oF σ r2 0 3 (.ref r3) ∧ (oC σ r3 10 ∧ wp_J4_length r3 σ (fun v5 σ4 => (((v5 ≤ x1) → (∃ x7 : Int32, oF σ4 a 6 0 (.int x7) ∧ (∃ fs9 : List Value, σ4.1 a = some (.inr (6, fs9)) ∧ 0 < fs9.length ∧ ∀ σ8 : OS, σ8 = (oPut σ4 a (.inr (6, fs9.set 0 (.int (x7 + 1))))) → (∃ x10 : Int32, oF σ8 a 6 0 (.int x10) ∧ (∃ fs12 : List Value, σ8.1 a = some (.inr (6, fs12)) ∧ 0 < fs12.length ∧ ∀ σ11 : OS, σ11 = (oPut σ8 a (.inr (6, fs12.set 0 (.int (x10 - 1))))) → (1 ≤ σ11.2.2.1 ∧ ∀ q13 : Nat, oFr σ11 q13 → (σ11.2.2.2.1 ≠ 0 → q13 = σ11.2.2.2.1) → ∀ σ14 : OS, σ14 = oNew σ11 q13 1 (.inr (8, [.null, .null, .null, .null, .null, .int 0])) → wp_X10_init q13 σ14 (fun σ15 => (oC σ15 q13 8 ∧ X 3 (oXs σ15 0))))))))) ∧ ((¬ v5 ≤ x1) → (∃ r16 : Nat, oF σ4 a 6 2 (.ref r16) ∧ (∃ r17 : Nat, oF σ4 r16 0 3 (.ref r17) ∧ (∃ x18 : Int32, oF σ4 a 6 0 (.int x18) ∧ (∃ x19 : Int32, oF σ4 a 6 0 (.int x19) ∧ (oC σ4 r17 10 ∧ wp_J4_substring r17 x18 (x19 + 1) σ4 (fun r21 σ20 => (∃ x22 : Int32, oF σ20 a 6 0 (.int x22) ∧ (∃ fs24 : List Value, σ20.1 a = some (.inr (6, fs24)) ∧ 0 < fs24.length ∧ ∀ σ23 : OS, σ23 = (oPut σ20 a (.inr (6, fs24.set 0 (.int (x22 + 1))))) → (oC σ23 r21 11 ∧ wp_J5_hashCode r21 σ23 (fun v26 σ25 => (jn (fun (x29 : Int32) => ((x29 = 0 → (1 ≤ σ25.2.2.1 ∧ ∀ q31 : Nat, oFr σ25 q31 → (σ25.2.2.2.1 ≠ 0 → q31 = σ25.2.2.2.1) → ∀ σ32 : OS, σ32 = oNew σ25 q31 1 (.inr (7, [.null, .int 0, .int 0])) → (oC σ32 a 6 ∧ wp_X8_kernels a σ32 (fun v34 σ33 => wp_X9_init q31 r21 v34 0 σ33 (fun σ35 => (Q q31 σ35))) X))) ∧ (¬ x29 = 0 → ((x29 = 1 → (1 ≤ σ25.2.2.1 ∧ ∀ q36 : Nat, oFr σ25 q36 → (σ25.2.2.2.1 ≠ 0 → q36 = σ25.2.2.2.1) → ∀ σ37 : OS, σ37 = oNew σ25 q36 1 (.inr (7, [.null, .int 0, .int 0])) → (oC σ37 a 6 ∧ wp_X8_number a 48 11 σ37 (fun v39 σ38 => wp_X9_init q36 r21 v39 0 σ38 (fun σ40 => (Q q36 σ40))) X))) ∧ (¬ x29 = 1 → ((x29 = 2 → (1 ≤ σ25.2.2.1 ∧ ∀ q41 : Nat, oFr σ25 q41 → (σ25.2.2.2.1 ≠ 0 → q41 = σ25.2.2.2.1) → ∀ σ42 : OS, σ42 = oNew σ25 q41 1 (.inr (7, [.null, .int 0, .int 0])) → (oC σ42 a 6 ∧ wp_X8_number a 48 11 σ42 (fun v44 σ43 => wp_X9_init q41 r21 v44 0 σ43 (fun σ45 => (Q q41 σ45))) X))) ∧ (¬ x29 = 2 → ((x29 = 3 → (1 ≤ σ25.2.2.1 ∧ ∀ q46 : Nat, oFr σ25 q46 → (σ25.2.2.2.1 ≠ 0 → q46 = σ25.2.2.2.1) → ∀ σ47 : OS, σ47 = oNew σ25 q46 1 (.inr (7, [.null, .int 0, .int 0])) → (oC σ47 a 6 ∧ wp_X8_number a 48 11 σ47 (fun v49 σ48 => wp_X9_init q46 r21 v49 0 σ48 (fun σ50 => (Q q46 σ50))) X))) ∧ (¬ x29 = 3 → ((x29 = 4 → (1 ≤ σ25.2.2.1 ∧ ∀ q51 : Nat, oFr σ25 q51 → (σ25.2.2.2.1 ≠ 0 → q51 = σ25.2.2.2.1) → ∀ σ52 : OS, σ52 = oNew σ25 q51 1 (.inr (7, [.null, .int 0, .int 0])) → (oC σ52 a 6 ∧ wp_X8_number a 48 11 σ52 (fun v54 σ53 => wp_X9_init q51 r21 v54 0 σ53 (fun σ55 => (Q q51 σ55))) X))) ∧ (¬ x29 = 4 → ((x29 = 5 → (oC σ25 a 6 ∧ wp_X8_number a 48 11 σ25 (fun v57 σ56 => (1 ≤ σ56.2.2.1 ∧ ∀ q58 : Nat, oFr σ56 q58 → (σ56.2.2.2.1 ≠ 0 → q58 = σ56.2.2.2.1) → ∀ σ59 : OS, σ59 = oNew σ56 q58 1 (.inr (7, [.null, .int 0, .int 0])) → (oC σ59 a 6 ∧ wp_X8_step a 62 σ59 (fun v61 σ60 => wp_X9_init q58 r21 v57 v61 σ60 (fun σ62 => (Q q58 σ62))) X))) X)) ∧ (¬ x29 = 5 → ((x29 = 6 → (1 ≤ σ25.2.2.1 ∧ ∀ q63 : Nat, oFr σ25 q63 → (σ25.2.2.2.1 ≠ 0 → q63 = σ25.2.2.2.1) → ∀ σ64 : OS, σ64 = oNew σ25 q63 1 (.inr (7, [.null, .int 0, .int 0])) → wp_X9_init q63 r21 0 0 σ64 (fun σ65 => (Q q63 σ65)))) ∧ (¬ x29 = 6 → ((x29 = 7 → (oC σ25 a 6 ∧ wp_X8_sign a 48 51 σ25 (fun v67 σ66 => (1 ≤ σ66.2.2.1 ∧ ∀ q68 : Nat, oFr σ66 q68 → (σ66.2.2.2.1 ≠ 0 → q68 = σ66.2.2.2.1) → ∀ σ69 : OS, σ69 = oNew σ66 q68 1 (.inr (7, [.null, .int 0, .int 0])) → (oC σ69 a 6 ∧ wp_X8_step a 61 σ69 (fun v71 σ70 => wp_X9_init q68 r21 (v67 - 48) v71 σ70 (fun σ72 => (Q q68 σ72))) X))) X)) ∧ (¬ x29 = 7 → ((x29 = 8 → (oC σ25 a 6 ∧ wp_X8_sign a 48 51 σ25 (fun v74 σ73 => (1 ≤ σ73.2.2.1 ∧ ∀ q75 : Nat, oFr σ73 q75 → (σ73.2.2.2.1 ≠ 0 → q75 = σ73.2.2.2.1) → ∀ σ76 : OS, σ76 = oNew σ73 q75 1 (.inr (7, [.null, .int 0, .int 0])) → (oC σ76 a 6 ∧ wp_X8_step a 61 σ76 (fun v78 σ77 => wp_X9_init q75 r21 (v74 - 48) v78 σ77 (fun σ79 => (Q q75 σ79))) X))) X)) ∧ (¬ x29 = 8 → ((x29 = 9 → (oC σ25 a 6 ∧ wp_X8_sign a 48 51 σ25 (fun v81 σ80 => (1 ≤ σ80.2.2.1 ∧ ∀ q82 : Nat, oFr σ80 q82 → (σ80.2.2.2.1 ≠ 0 → q82 = σ80.2.2.2.1) → ∀ σ83 : OS, σ83 = oNew σ80 q82 1 (.inr (7, [.null, .int 0, .int 0])) → (oC σ83 a 6 ∧ wp_X8_step a 61 σ83 (fun v85 σ84 => wp_X9_init q82 r21 (v81 - 48) v85 σ84 (fun σ86 => (Q q82 σ86))) X))) X)) ∧ (¬ x29 = 9 → ((x29 = 10 → (1 ≤ σ25.2.2.1 ∧ ∀ q87 : Nat, oFr σ25 q87 → (σ25.2.2.2.1 ≠ 0 → q87 = σ25.2.2.2.1) → ∀ σ88 : OS, σ88 = oNew σ25 q87 1 (.inr (7, [.null, .int 0, .int 0])) → (oC σ88 a 6 ∧ wp_X8_number a 49 48 σ88 (fun v90 σ89 => wp_X9_init q87 r21 v90 0 σ89 (fun σ91 => (Q q87 σ91))) X))) ∧ (¬ x29 = 10 → (∃ x92 : Int32, oF σ25 a 6 0 (.int x92) ∧ (∃ fs94 : List Value, σ25.1 a = some (.inr (6, fs94)) ∧ 0 < fs94.length ∧ ∀ σ93 : OS, σ93 = (oPut σ25 a (.inr (6, fs94.set 0 (.int (x92 - 1))))) → (1 ≤ σ93.2.2.1 ∧ ∀ q95 : Nat, oFr σ93 q95 → (σ93.2.2.2.1 ≠ 0 → q95 = σ93.2.2.2.1) → ∀ σ96 : OS, σ96 = oNew σ93 q95 1 (.inr (8, [.null, .null, .null, .null, .null, .int 0])) → wp_X10_init q95 σ96 (fun σ97 => (oC σ97 q95 8 ∧ X 3 (oXs σ97 0))))))))))))))))))))))))))))) (fun kj28 => ((v26 = 43 → (∃ (v98 : Nat) (x100 : Int32) (x101 : Int32) (f99 : Nat → Int32), σ25.1 r21 = some (.inr (11, [.ref v98, .int 0, .int x100, .int x101])) ∧ σ25.1 v98 = some (.inl (2, 1, .inl f99)) ∧ ∀ v102 : Int32, v102 = (if f99 0 = 43 then 1 else 0) → (((v102 = 0) → (kj28 ((-1)))) ∧ ((¬ v102 = 0) → (kj28 0))))) ∧ (¬ v26 = 43 → ((v26 = 97 → (∃ (v104 : Nat) (x106 : Int32) (x107 : Int32) (f105 : Nat → Int32), σ25.1 r21 = some (.inr (11, [.ref v104, .int 0, .int x106, .int x107])) ∧ σ25.1 v104 = some (.inl (2, 1, .inl f105)) ∧ ∀ v108 : Int32, v108 = (if f105 0 = 97 then 1 else 0) → (((v108 = 0) → (kj28 ((-1)))) ∧ ((¬ v108 = 0) → (kj28 7))))) ∧ (¬ v26 = 97 → ((v26 = 100 → (∃ (v110 : Nat) (x112 : Int32) (x113 : Int32) (f111 : Nat → Int32), σ25.1 r21 = some (.inr (11, [.ref v110, .int 0, .int x112, .int x113])) ∧ σ25.1 v110 = some (.inl (2, 1, .inl f111)) ∧ ∀ v114 : Int32, v114 = (if f111 0 = 100 then 1 else 0) → (((v114 = 0) → (kj28 ((-1)))) ∧ ((¬ v114 = 0) → (kj28 5))))) ∧ (¬ v26 = 100 → ((v26 = 104 → (∃ (v116 : Nat) (x118 : Int32) (x119 : Int32) (f117 : Nat → Int32), σ25.1 r21 = some (.inr (11, [.ref v116, .int 0, .int x118, .int x119])) ∧ σ25.1 v116 = some (.inl (2, 1, .inl f117)) ∧ ∀ v120 : Int32, v120 = (if f117 0 = 104 then 1 else 0) → (((v120 = 0) → (kj28 ((-1)))) ∧ ((¬ v120 = 0) → (kj28 2))))) ∧ (¬ v26 = 104 → ((v26 = 107 → (∃ (v122 : Nat) (x124 : Int32) (x125 : Int32) (f123 : Nat → Int32), σ25.1 r21 = some (.inr (11, [.ref v122, .int 0, .int x124, .int x125])) ∧ σ25.1 v122 = some (.inl (2, 1, .inl f123)) ∧ ∀ v126 : Int32, v126 = (if f123 0 = 107 then 1 else 0) → (((v126 = 0) → (kj28 ((-1)))) ∧ ((¬ v126 = 0) → (kj28 3))))) ∧ (¬ v26 = 107 → ((v26 = 108 → (∃ (v128 : Nat) (x130 : Int32) (x131 : Int32) (f129 : Nat → Int32), σ25.1 r21 = some (.inr (11, [.ref v128, .int 0, .int x130, .int x131])) ∧ σ25.1 v128 = some (.inl (2, 1, .inl f129)) ∧ ∀ v132 : Int32, v132 = (if f129 0 = 108 then 1 else 0) → (((v132 = 0) → (kj28 ((-1)))) ∧ ((¬ v132 = 0) → (kj28 6))))) ∧ (¬ v26 = 108 → ((v26 = 110 → (∃ (v134 : Nat) (x136 : Int32) (x137 : Int32) (f135 : Nat → Int32), σ25.1 r21 = some (.inr (11, [.ref v134, .int 0, .int x136, .int x137])) ∧ σ25.1 v134 = some (.inl (2, 1, .inl f135)) ∧ ∀ v138 : Int32, v138 = (if f135 0 = 110 then 1 else 0) → (((v138 = 0) → (kj28 ((-1)))) ∧ ((¬ v138 = 0) → (kj28 10))))) ∧ (¬ v26 = 110 → ((v26 = 112 → (∃ (v140 : Nat) (x142 : Int32) (x143 : Int32) (f141 : Nat → Int32), σ25.1 r21 = some (.inr (11, [.ref v140, .int 0, .int x142, .int x143])) ∧ σ25.1 v140 = some (.inl (2, 1, .inl f141)) ∧ ∀ v144 : Int32, v144 = (if f141 0 = 112 then 1 else 0) → (((v144 = 0) → (kj28 ((-1)))) ∧ ((¬ v144 = 0) → (kj28 4))))) ∧ (¬ v26 = 112 → ((v26 = 115 → (∃ (v146 : Nat) (x148 : Int32) (x149 : Int32) (f147 : Nat → Int32), σ25.1 r21 = some (.inr (11, [.ref v146, .int 0, .int x148, .int x149])) ∧ σ25.1 v146 = some (.inl (2, 1, .inl f147)) ∧ ∀ v150 : Int32, v150 = (if f147 0 = 115 then 1 else 0) → (((v150 = 0) → (kj28 ((-1)))) ∧ ((¬ v150 = 0) → (kj28 1))))) ∧ (¬ v26 = 115 → ((v26 = 116 → (∃ (v152 : Nat) (x154 : Int32) (x155 : Int32) (f153 : Nat → Int32), σ25.1 r21 = some (.inr (11, [.ref v152, .int 0, .int x154, .int x155])) ∧ σ25.1 v152 = some (.inl (2, 1, .inl f153)) ∧ ∀ v156 : Int32, v156 = (if f153 0 = 116 then 1 else 0) → (((v156 = 0) → (kj28 ((-1)))) ∧ ((¬ v156 = 0) → (kj28 9))))) ∧ (¬ v26 = 116 → ((v26 = 119 → (∃ (v158 : Nat) (x160 : Int32) (x161 : Int32) (f159 : Nat → Int32), σ25.1 r21 = some (.inr (11, [.ref v158, .int 0, .int x160, .int x161])) ∧ σ25.1 v158 = some (.inl (2, 1, .inl f159)) ∧ ∀ v162 : Int32, v162 = (if f159 0 = 119 then 1 else 0) → (((v162 = 0) → (kj28 ((-1)))) ∧ ((¬ v162 = 0) → (kj28 8))))) ∧ (¬ v26 = 119 → (kj28 ((-1))))))))))))))))))))))))))))))))))))))))))))
theorem sg_X8_order : aSig yX8_order 0 := by decide +kernel
set_option maxHeartbeats 4000000 in
theorem ct_X8_order (l : Launch) (G : aG) (a : Nat) (E : Nat → Prop) (σ : OS) (Q : Nat → OS → Prop) (X : Nat → OS → Prop) (hw : wp_X8_order a σ Q X) (h0 : AH) (n0 u0 : Nat) (hB : OB h0 n0 E σ) : CTX l yX8_order (ws_ yX8_order cX8_order 6 (some (.object "MaltDrums$Order"))) 8 G [.ref a] h0 n0 u0 σ.2.2.1 (10 * σ.2.2.1) (o_pr Q h0 n0 u0 E σ.2.2.1) (o_px X h0 E) := by
  refine CTX.intro [some (.ref a), none, none, none, none, none] pn_RX8 rfl (Nat.le_of_ble_eq_true rfl) ?_
  intro p e s m args below meth c C hz hu ht
  have hs : s.heap.size = n0 ∧ slT s.heap = u0 := ⟨hz, hu⟩
  refine a_world (V1 := OW h0 n0 u0 E σ.2.2.1 σ) (OW.start hB) ?_
  unfold wp_X8_order at hw
  refine a_aload_0 (pc := 0) C dX8_order_0 ?_
  obtain ⟨x1, fx1, hw⟩ := hw
  refine a_getf (pc := 1) C (ref := "MaltDrums$Reader") in_X8 (ci := 6) rfl 0 (by decide) q675 rfl (fun h n u hV => o_fld fx1 hV) dX8_order_1 ?_
  refine a_aload_0 (pc := 4) C dX8_order_4 ?_
  obtain ⟨r2, fr2, hw⟩ := hw
  refine a_getf (pc := 5) C (ref := "MaltDrums$Reader") in_X8 (ci := 6) rfl 2 (by decide) q678 rfl (fun h n u hV => o_fld fr2 hV) dX8_order_5 ?_
  obtain ⟨r3, fr3, hw⟩ := hw
  refine a_getfN (pc := 8) C (ref := "MaltDrums") in_X1 (ci := 0) rfl 3 (by decide) q302 rfl (fun h n u hV => o_fld fr3 hV) dX8_order_8 ?_
  refine o_callVi (pc := 11) C hs [] (b := r3) (ci := 10) (st := [.int x1]) (fun h n u hB => ct_J4_length l G r3 E _ _ hw.2 h n u hB) (by decide) (by decide) rfl hw.1 q74 q717 q318 q319 (lw_meth q320) sg_J4_length (Nat.le_of_ble_eq_true rfl) dX8_order_11 (fun v5 σ4 hw => ?_)
  refine a_icmp_ge (pc := 14) C 40 dX8_order_14 (by decide) (fun c6 => ?_) (fun c6 => ?_)
  · have hw := hw.1 c6
    refine a_ldcS (pc := 40) C ((C.SC.2.2.2.2.2.2 0 _ rfl).1) dX8_order_40 ?_
    refine a_astore_1 (pc := 42) C dX8_order_42 (by decide) rfl ?_
    refine a_aload_0 (pc := 43) C dX8_order_43 ?_
    refine a_dup (pc := 44) C dX8_order_44 rfl ?_
    obtain ⟨x7, fx7, hw⟩ := hw
    refine a_getf (pc := 45) C (ref := "MaltDrums$Reader") in_X8 (ci := 6) rfl 0 (by decide) q675 rfl (fun h n u hV => o_fld fx7 hV) dX8_order_45 ?_
    refine a_iconst (pc := 48) C dX8_order_48 ic_1 ?_
    refine a_iadd (pc := 49) C dX8_order_49 ?_
    obtain ⟨fs9, ffs9, kfs9, hw⟩ := hw
    refine a_putf (pc := 50) C (ref := "MaltDrums$Reader") (V1 := OW h0 n0 u0 E σ.2.2.1 (oPut σ4 a (.inr (6, fs9.set 0 (.int (x7 + 1)))))) in_X8 tyX8 tyX8_ok nmX8 (ci := 6) rfl 0 (by decide) q675 rfl rfl rfl rfl (fun h n u hV => o_put (by decide) ffs9 kfs9 hV) dX8_order_50 (o_top (fun σ8 eσ8 => ?_))
    have hw := hw σ8 eσ8
    refine a_aload_1 (pc := 53) C dX8_order_53 ?_
    refine a_astore_2 (pc := 54) C dX8_order_54 (by decide) rfl ?_
    refine a_iconst (pc := 55) C dX8_order_55 ic_m1 ?_
    refine a_istore_3 (pc := 56) C dX8_order_56 (by decide) rfl ?_
    refine a_aload_2 (pc := 57) C dX8_order_57 ?_
    refine o_hash0 (pc := 58) C hs (st := []) (by decide) q746 (Nat.le_of_ble_eq_true rfl) dX8_order_58 ?_
    refine a_lookup (pc := 61) (off := 255) C 316 dX8_order_61 (by decide) (by decide) (by decide) ?_
    refine a_iload_3 (pc := 316) C dX8_order_316 ?_
    refine a_tableOut (pc := 317) C 494 dX8_order_317 (by decide) (by decide) ?_
    refine a_aload_0 (pc := 494) C dX8_order_494 ?_
    refine a_dup (pc := 495) C dX8_order_495 rfl ?_
    obtain ⟨x10, fx10, hw⟩ := hw
    refine a_getf (pc := 496) C (ref := "MaltDrums$Reader") in_X8 (ci := 6) rfl 0 (by decide) q675 rfl (fun h n u hV => o_fld fx10 hV) dX8_order_496 ?_
    refine a_iconst (pc := 499) C dX8_order_499 ic_1 ?_
    refine a_isub (pc := 500) C dX8_order_500 ?_
    obtain ⟨fs12, ffs12, kfs12, hw⟩ := hw
    refine a_putf (pc := 501) C (ref := "MaltDrums$Reader") (V1 := OW h0 n0 u0 E σ.2.2.1 (oPut σ8 a (.inr (6, fs12.set 0 (.int (x10 - 1)))))) in_X8 tyX8 tyX8_ok nmX8 (ci := 6) rfl 0 (by decide) q675 rfl rfl rfl rfl (fun h n u hV => o_put (by decide) ffs12 kfs12 hV) dX8_order_501 (o_top (fun σ11 eσ11 => ?_))
    have hw := hw σ11 eσ11
    refine o_newC (pc := 504) C hs 1 in_X10 tyX10 tyX10_ok q858 q859 q99 (ci := 8) (fs := [.null, .null, .null, .null, .null, .int 0]) rfl (by decide) (fun f z => by cases z) (by decide) (by decide) hw.1 dX8_order_504 (fun q13 frq13 nxq13 σ14 eσ14 => ?_)
    have hw := hw.2 q13 frq13 nxq13 σ14 eσ14
    refine a_dup (pc := 507) C dX8_order_507 rfl ?_
    refine o_callIv (pc := 508) C hs [] (b := q13) (st := [.ref q13]) (fun h n u hB => ct_X10_init l G q13 E _ _ hw h n u hB) (by decide) (by decide) q99 q867 q868 rfl (lw_meth q869) sg_X10_init (Nat.le_of_ble_eq_true rfl) dX8_order_508 (fun σ15 hw => ?_)
    exact a_athrow (pc := 511) C (fun h n u hV => o_cls hw.1 hV) dX8_order_511 (ax_out C (fun x hx => (ht x hx).elim) (fun h n u hV => ⟨⟨3, _, rfl, hw.2, hV.1.same rfl rfl rfl, hV.2.2.2.2.2.1⟩, o_end hs hV⟩))
  · have hw := hw.2 c6
    refine a_aload_0 (pc := 17) C dX8_order_17 ?_
    obtain ⟨r16, fr16, hw⟩ := hw
    refine a_getf (pc := 18) C (ref := "MaltDrums$Reader") in_X8 (ci := 6) rfl 2 (by decide) q678 rfl (fun h n u hV => o_fld fr16 hV) dX8_order_18 ?_
    obtain ⟨r17, fr17, hw⟩ := hw
    refine a_getfN (pc := 21) C (ref := "MaltDrums") in_X1 (ci := 0) rfl 3 (by decide) q302 rfl (fun h n u hV => o_fld fr17 hV) dX8_order_21 ?_
    refine a_aload_0 (pc := 24) C dX8_order_24 ?_
    obtain ⟨x18, fx18, hw⟩ := hw
    refine a_getf (pc := 25) C (ref := "MaltDrums$Reader") in_X8 (ci := 6) rfl 0 (by decide) q675 rfl (fun h n u hV => o_fld fx18 hV) dX8_order_25 ?_
    refine a_aload_0 (pc := 28) C dX8_order_28 ?_
    obtain ⟨x19, fx19, hw⟩ := hw
    refine a_getf (pc := 29) C (ref := "MaltDrums$Reader") in_X8 (ci := 6) rfl 0 (by decide) q675 rfl (fun h n u hV => o_fld fx19 hV) dX8_order_29 ?_
    refine a_iconst (pc := 32) C dX8_order_32 ic_1 ?_
    refine a_iadd (pc := 33) C dX8_order_33 ?_
    refine o_callVr (pc := 34) C hs [.int x18, .int (x19 + 1)] (b := r17) (ci := 10) (st := []) (fun h n u hB => ct_J4_substring l G r17 _ _ E _ _ hw.2 h n u hB) (by decide) (by decide) rfl hw.1 q74 q718 q719 q720 (lw_meth q721) sg_J4_substring (Nat.le_of_ble_eq_true rfl) dX8_order_34 (fun r21 σ20 hw => ?_)
    refine a_goto (pc := 37) C 42 dX8_order_37 (by decide) ?_
    refine a_astore_1 (pc := 42) C dX8_order_42 (by decide) rfl ?_
    refine a_aload_0 (pc := 43) C dX8_order_43 ?_
    refine a_dup (pc := 44) C dX8_order_44 rfl ?_
    obtain ⟨x22, fx22, hw⟩ := hw
    refine a_getf (pc := 45) C (ref := "MaltDrums$Reader") in_X8 (ci := 6) rfl 0 (by decide) q675 rfl (fun h n u hV => o_fld fx22 hV) dX8_order_45 ?_
    refine a_iconst (pc := 48) C dX8_order_48 ic_1 ?_
    refine a_iadd (pc := 49) C dX8_order_49 ?_
    obtain ⟨fs24, ffs24, kfs24, hw⟩ := hw
    refine a_putf (pc := 50) C (ref := "MaltDrums$Reader") (V1 := OW h0 n0 u0 E σ.2.2.1 (oPut σ20 a (.inr (6, fs24.set 0 (.int (x22 + 1)))))) in_X8 tyX8 tyX8_ok nmX8 (ci := 6) rfl 0 (by decide) q675 rfl rfl rfl rfl (fun h n u hV => o_put (by decide) ffs24 kfs24 hV) dX8_order_50 (o_top (fun σ23 eσ23 => ?_))
    have hw := hw σ23 eσ23
    refine a_aload_1 (pc := 53) C dX8_order_53 ?_
    refine a_astore_2 (pc := 54) C dX8_order_54 (by decide) rfl ?_
    refine a_iconst (pc := 55) C dX8_order_55 ic_m1 ?_
    refine a_istore_3 (pc := 56) C dX8_order_56 (by decide) rfl ?_
    refine a_aload_2 (pc := 57) C dX8_order_57 ?_
    refine o_callVi (pc := 58) C hs [] (b := r21) (ci := 11) (st := []) (fun h n u hB => ct_J5_hashCode l G r21 E _ _ hw.2 h n u hB) (by decide) (by decide) rfl hw.1 q75 q746 q747 q748 (lw_meth q749) sg_J5_hashCode (Nat.le_of_ble_eq_true rfl) dX8_order_58 (fun v26 σ25 hw => ?_)
    refine jn_use hw (fun kj28 ekj28 hw => ?_)
    have hkj28 : ∀ (x29 : Int32), kj28 x29 → AW G p l e (aRm 8 σ.2.2.1 (10 * σ.2.2.1)) s m args below meth c (a_A h0 n0) 6 (vx_MQ below (a_Qc G (o_pr Q h0 n0 u0 E σ.2.2.1) (a_A h0 n0)) (a_XC G (o_px X h0 E) (a_A h0 n0)) args s σ.2.2.1 (10 * σ.2.2.1) (a_A h0 n0)) (OW h0 n0 u0 E σ.2.2.1 σ25) 316 [some (.ref a), some (.ref r21), some (.ref r21), some (.int x29), none, none] [] := by
      intro x29 hw
      rw [ekj28] at hw
      refine a_iload_3 (pc := 316) C dX8_order_316 ?_
      by_cases c30_0 : x29 = 0
      · have hw := hw.1 c30_0
        refine a_tableIn (pc := 317) C 376 dX8_order_317 (by rw [c30_0]; decide) (by rw [c30_0]; decide) (by rw [c30_0]; rfl) (by decide) ?_
        refine o_newC (pc := 376) C hs 1 in_X9 tyX9 tyX9_ok q826 q827 q98 (ci := 7) (fs := [.null, .int 0, .int 0]) rfl (by decide) (fun f z => by cases z) (by decide) (by decide) hw.1 dX8_order_376 (fun q31 frq31 nxq31 σ32 eσ32 => ?_)
        have hw := hw.2 q31 frq31 nxq31 σ32 eσ32
        refine a_dup (pc := 379) C dX8_order_379 rfl ?_
        refine a_aload_1 (pc := 380) C dX8_order_380 ?_
        refine a_aload_0 (pc := 381) C dX8_order_381 ?_
        refine o_callXVi (pc := 382) C hs [] (b := a) (ci := 6) (st := [.ref r21, .ref q31, .ref q31]) (fun h n u hB => ct_X8_kernels l G a E _ _ _ hw.2 h n u hB) (by decide) (by decide) rfl hw.1 q95 q828 q830 qs2 (lw_meth q831) sg_X8_kernels (Nat.le_of_ble_eq_true rfl) dX8_order_382 (fun v34 σ33 hw => ?_) (fun k9 σx hx => ?_)
        · refine a_iconst (pc := 385) C dX8_order_385 ic_0 ?_
          refine o_callINv (pc := 386) C hs [.ref r21, .int v34, .int 0] (b := q31) (st := [.ref q31]) (fun h n u hB => ct_X9_init l G q31 _ _ _ E _ _ hw h n u hB) (by decide) (by decide) q878 q879 q98 rfl (lw_meth q880) sg_X9_init (Nat.le_of_ble_eq_true rfl) dX8_order_386 (fun σ35 hw => ?_)
          exact a_xret (a_aret (Or.inl ⟨_, rfl⟩) (Or.inr ⟨_, rfl⟩) C dX8_order_389 (fun h n u hV => ⟨⟨(_, _), rfl, hw, hV⟩, o_end hs hV⟩))
        · exact ax_out C (fun x hx => (ht x hx).elim) (fun h n u hV => ⟨⟨k9, σx, rfl, hx, hV.1.same rfl rfl rfl, hV.2.2.2.2.2.1⟩, o_end hs hV⟩)
      · have hw := hw.2 c30_0
        by_cases c30_1 : x29 = 1
        · have hw := hw.1 c30_1
          refine a_tableIn (pc := 317) C 390 dX8_order_317 (by rw [c30_1]; decide) (by rw [c30_1]; decide) (by rw [c30_1]; rfl) (by decide) ?_
          refine o_newC (pc := 390) C hs 1 in_X9 tyX9 tyX9_ok q826 q827 q98 (ci := 7) (fs := [.null, .int 0, .int 0]) rfl (by decide) (fun f z => by cases z) (by decide) (by decide) hw.1 dX8_order_390 (fun q36 frq36 nxq36 σ37 eσ37 => ?_)
          have hw := hw.2 q36 frq36 nxq36 σ37 eσ37
          refine a_dup (pc := 393) C dX8_order_393 rfl ?_
          refine a_aload_1 (pc := 394) C dX8_order_394 ?_
          refine a_aload_0 (pc := 395) C dX8_order_395 ?_
          refine a_bipush (pc := 396) C dX8_order_396 bc_48 ?_
          refine a_bipush (pc := 398) C dX8_order_398 bc_11 ?_
          refine o_callXVi (pc := 400) C hs [.int 48, .int 11] (b := a) (ci := 6) (st := [.ref r21, .ref q36, .ref q36]) (fun h n u hB => ct_X8_number l G a _ _ E _ _ _ hw.2 h n u hB) (by decide) (by decide) rfl hw.1 q95 q892 q894 qs5 (lw_meth q895) sg_X8_number (Nat.le_of_ble_eq_true rfl) dX8_order_400 (fun v39 σ38 hw => ?_) (fun k9 σx hx => ?_)
          · refine a_iconst (pc := 403) C dX8_order_403 ic_0 ?_
            refine o_callINv (pc := 404) C hs [.ref r21, .int v39, .int 0] (b := q36) (st := [.ref q36]) (fun h n u hB => ct_X9_init l G q36 _ _ _ E _ _ hw h n u hB) (by decide) (by decide) q878 q879 q98 rfl (lw_meth q880) sg_X9_init (Nat.le_of_ble_eq_true rfl) dX8_order_404 (fun σ40 hw => ?_)
            exact a_xret (a_aret (Or.inl ⟨_, rfl⟩) (Or.inr ⟨_, rfl⟩) C dX8_order_407 (fun h n u hV => ⟨⟨(_, _), rfl, hw, hV⟩, o_end hs hV⟩))
          · exact ax_out C (fun x hx => (ht x hx).elim) (fun h n u hV => ⟨⟨k9, σx, rfl, hx, hV.1.same rfl rfl rfl, hV.2.2.2.2.2.1⟩, o_end hs hV⟩)
        · have hw := hw.2 c30_1
          by_cases c30_2 : x29 = 2
          · have hw := hw.1 c30_2
            refine a_tableIn (pc := 317) C 390 dX8_order_317 (by rw [c30_2]; decide) (by rw [c30_2]; decide) (by rw [c30_2]; rfl) (by decide) ?_
            refine o_newC (pc := 390) C hs 1 in_X9 tyX9 tyX9_ok q826 q827 q98 (ci := 7) (fs := [.null, .int 0, .int 0]) rfl (by decide) (fun f z => by cases z) (by decide) (by decide) hw.1 dX8_order_390 (fun q41 frq41 nxq41 σ42 eσ42 => ?_)
            have hw := hw.2 q41 frq41 nxq41 σ42 eσ42
            refine a_dup (pc := 393) C dX8_order_393 rfl ?_
            refine a_aload_1 (pc := 394) C dX8_order_394 ?_
            refine a_aload_0 (pc := 395) C dX8_order_395 ?_
            refine a_bipush (pc := 396) C dX8_order_396 bc_48 ?_
            refine a_bipush (pc := 398) C dX8_order_398 bc_11 ?_
            refine o_callXVi (pc := 400) C hs [.int 48, .int 11] (b := a) (ci := 6) (st := [.ref r21, .ref q41, .ref q41]) (fun h n u hB => ct_X8_number l G a _ _ E _ _ _ hw.2 h n u hB) (by decide) (by decide) rfl hw.1 q95 q892 q894 qs5 (lw_meth q895) sg_X8_number (Nat.le_of_ble_eq_true rfl) dX8_order_400 (fun v44 σ43 hw => ?_) (fun k9 σx hx => ?_)
            · refine a_iconst (pc := 403) C dX8_order_403 ic_0 ?_
              refine o_callINv (pc := 404) C hs [.ref r21, .int v44, .int 0] (b := q41) (st := [.ref q41]) (fun h n u hB => ct_X9_init l G q41 _ _ _ E _ _ hw h n u hB) (by decide) (by decide) q878 q879 q98 rfl (lw_meth q880) sg_X9_init (Nat.le_of_ble_eq_true rfl) dX8_order_404 (fun σ45 hw => ?_)
              exact a_xret (a_aret (Or.inl ⟨_, rfl⟩) (Or.inr ⟨_, rfl⟩) C dX8_order_407 (fun h n u hV => ⟨⟨(_, _), rfl, hw, hV⟩, o_end hs hV⟩))
            · exact ax_out C (fun x hx => (ht x hx).elim) (fun h n u hV => ⟨⟨k9, σx, rfl, hx, hV.1.same rfl rfl rfl, hV.2.2.2.2.2.1⟩, o_end hs hV⟩)
          · have hw := hw.2 c30_2
            by_cases c30_3 : x29 = 3
            · have hw := hw.1 c30_3
              refine a_tableIn (pc := 317) C 390 dX8_order_317 (by rw [c30_3]; decide) (by rw [c30_3]; decide) (by rw [c30_3]; rfl) (by decide) ?_
              refine o_newC (pc := 390) C hs 1 in_X9 tyX9 tyX9_ok q826 q827 q98 (ci := 7) (fs := [.null, .int 0, .int 0]) rfl (by decide) (fun f z => by cases z) (by decide) (by decide) hw.1 dX8_order_390 (fun q46 frq46 nxq46 σ47 eσ47 => ?_)
              have hw := hw.2 q46 frq46 nxq46 σ47 eσ47
              refine a_dup (pc := 393) C dX8_order_393 rfl ?_
              refine a_aload_1 (pc := 394) C dX8_order_394 ?_
              refine a_aload_0 (pc := 395) C dX8_order_395 ?_
              refine a_bipush (pc := 396) C dX8_order_396 bc_48 ?_
              refine a_bipush (pc := 398) C dX8_order_398 bc_11 ?_
              refine o_callXVi (pc := 400) C hs [.int 48, .int 11] (b := a) (ci := 6) (st := [.ref r21, .ref q46, .ref q46]) (fun h n u hB => ct_X8_number l G a _ _ E _ _ _ hw.2 h n u hB) (by decide) (by decide) rfl hw.1 q95 q892 q894 qs5 (lw_meth q895) sg_X8_number (Nat.le_of_ble_eq_true rfl) dX8_order_400 (fun v49 σ48 hw => ?_) (fun k9 σx hx => ?_)
              · refine a_iconst (pc := 403) C dX8_order_403 ic_0 ?_
                refine o_callINv (pc := 404) C hs [.ref r21, .int v49, .int 0] (b := q46) (st := [.ref q46]) (fun h n u hB => ct_X9_init l G q46 _ _ _ E _ _ hw h n u hB) (by decide) (by decide) q878 q879 q98 rfl (lw_meth q880) sg_X9_init (Nat.le_of_ble_eq_true rfl) dX8_order_404 (fun σ50 hw => ?_)
                exact a_xret (a_aret (Or.inl ⟨_, rfl⟩) (Or.inr ⟨_, rfl⟩) C dX8_order_407 (fun h n u hV => ⟨⟨(_, _), rfl, hw, hV⟩, o_end hs hV⟩))
              · exact ax_out C (fun x hx => (ht x hx).elim) (fun h n u hV => ⟨⟨k9, σx, rfl, hx, hV.1.same rfl rfl rfl, hV.2.2.2.2.2.1⟩, o_end hs hV⟩)
            · have hw := hw.2 c30_3
              by_cases c30_4 : x29 = 4
              · have hw := hw.1 c30_4
                refine a_tableIn (pc := 317) C 390 dX8_order_317 (by rw [c30_4]; decide) (by rw [c30_4]; decide) (by rw [c30_4]; rfl) (by decide) ?_
                refine o_newC (pc := 390) C hs 1 in_X9 tyX9 tyX9_ok q826 q827 q98 (ci := 7) (fs := [.null, .int 0, .int 0]) rfl (by decide) (fun f z => by cases z) (by decide) (by decide) hw.1 dX8_order_390 (fun q51 frq51 nxq51 σ52 eσ52 => ?_)
                have hw := hw.2 q51 frq51 nxq51 σ52 eσ52
                refine a_dup (pc := 393) C dX8_order_393 rfl ?_
                refine a_aload_1 (pc := 394) C dX8_order_394 ?_
                refine a_aload_0 (pc := 395) C dX8_order_395 ?_
                refine a_bipush (pc := 396) C dX8_order_396 bc_48 ?_
                refine a_bipush (pc := 398) C dX8_order_398 bc_11 ?_
                refine o_callXVi (pc := 400) C hs [.int 48, .int 11] (b := a) (ci := 6) (st := [.ref r21, .ref q51, .ref q51]) (fun h n u hB => ct_X8_number l G a _ _ E _ _ _ hw.2 h n u hB) (by decide) (by decide) rfl hw.1 q95 q892 q894 qs5 (lw_meth q895) sg_X8_number (Nat.le_of_ble_eq_true rfl) dX8_order_400 (fun v54 σ53 hw => ?_) (fun k9 σx hx => ?_)
                · refine a_iconst (pc := 403) C dX8_order_403 ic_0 ?_
                  refine o_callINv (pc := 404) C hs [.ref r21, .int v54, .int 0] (b := q51) (st := [.ref q51]) (fun h n u hB => ct_X9_init l G q51 _ _ _ E _ _ hw h n u hB) (by decide) (by decide) q878 q879 q98 rfl (lw_meth q880) sg_X9_init (Nat.le_of_ble_eq_true rfl) dX8_order_404 (fun σ55 hw => ?_)
                  exact a_xret (a_aret (Or.inl ⟨_, rfl⟩) (Or.inr ⟨_, rfl⟩) C dX8_order_407 (fun h n u hV => ⟨⟨(_, _), rfl, hw, hV⟩, o_end hs hV⟩))
                · exact ax_out C (fun x hx => (ht x hx).elim) (fun h n u hV => ⟨⟨k9, σx, rfl, hx, hV.1.same rfl rfl rfl, hV.2.2.2.2.2.1⟩, o_end hs hV⟩)
              · have hw := hw.2 c30_4
                by_cases c30_5 : x29 = 5
                · have hw := hw.1 c30_5
                  refine a_tableIn (pc := 317) C 408 dX8_order_317 (by rw [c30_5]; decide) (by rw [c30_5]; decide) (by rw [c30_5]; rfl) (by decide) ?_
                  refine a_aload_0 (pc := 408) C dX8_order_408 ?_
                  refine a_bipush (pc := 409) C dX8_order_409 bc_48 ?_
                  refine a_bipush (pc := 411) C dX8_order_411 bc_11 ?_
                  refine o_callXVi (pc := 413) C hs [.int 48, .int 11] (b := a) (ci := 6) (st := []) (fun h n u hB => ct_X8_number l G a _ _ E _ _ _ hw.2 h n u hB) (by decide) (by decide) rfl hw.1 q95 q892 q894 qs5 (lw_meth q895) sg_X8_number (Nat.le_of_ble_eq_true rfl) dX8_order_413 (fun v57 σ56 hw => ?_) (fun k9 σx hx => ?_)
                  · refine a_istore_4 (pc := 416) C dX8_order_416 (by decide) rfl ?_
                    refine o_newC (pc := 418) C hs 1 in_X9 tyX9 tyX9_ok q826 q827 q98 (ci := 7) (fs := [.null, .int 0, .int 0]) rfl (by decide) (fun f z => by cases z) (by decide) (by decide) hw.1 dX8_order_418 (fun q58 frq58 nxq58 σ59 eσ59 => ?_)
                    have hw := hw.2 q58 frq58 nxq58 σ59 eσ59
                    refine a_dup (pc := 421) C dX8_order_421 rfl ?_
                    refine a_aload_1 (pc := 422) C dX8_order_422 ?_
                    refine a_iload_4 (pc := 423) C dX8_order_423 ?_
                    refine a_aload_0 (pc := 425) C dX8_order_425 ?_
                    refine a_bipush (pc := 426) C dX8_order_426 bc_62 ?_
                    refine o_callXVi (pc := 428) C hs [.int 62] (b := a) (ci := 6) (st := [.int v57, .ref r21, .ref q58, .ref q58]) (fun h n u hB => ct_X8_step l G a _ E _ _ _ hw.2 h n u hB) (by decide) (by decide) rfl hw.1 q95 q896 q898 qs6 (lw_meth q899) sg_X8_step (Nat.le_of_ble_eq_true rfl) dX8_order_428 (fun v61 σ60 hw => ?_) (fun k9 σx hx => ?_)
                    · refine o_callINv (pc := 431) C hs [.ref r21, .int v57, .int v61] (b := q58) (st := [.ref q58]) (fun h n u hB => ct_X9_init l G q58 _ _ _ E _ _ hw h n u hB) (by decide) (by decide) q878 q879 q98 rfl (lw_meth q880) sg_X9_init (Nat.le_of_ble_eq_true rfl) dX8_order_431 (fun σ62 hw => ?_)
                      exact a_xret (a_aret (Or.inl ⟨_, rfl⟩) (Or.inr ⟨_, rfl⟩) C dX8_order_434 (fun h n u hV => ⟨⟨(_, _), rfl, hw, hV⟩, o_end hs hV⟩))
                    · exact ax_out C (fun x hx => (ht x hx).elim) (fun h n u hV => ⟨⟨k9, σx, rfl, hx, hV.1.same rfl rfl rfl, hV.2.2.2.2.2.1⟩, o_end hs hV⟩)
                  · exact ax_out C (fun x hx => (ht x hx).elim) (fun h n u hV => ⟨⟨k9, σx, rfl, hx, hV.1.same rfl rfl rfl, hV.2.2.2.2.2.1⟩, o_end hs hV⟩)
                · have hw := hw.2 c30_5
                  by_cases c30_6 : x29 = 6
                  · have hw := hw.1 c30_6
                    refine a_tableIn (pc := 317) C 435 dX8_order_317 (by rw [c30_6]; decide) (by rw [c30_6]; decide) (by rw [c30_6]; rfl) (by decide) ?_
                    refine o_newC (pc := 435) C hs 1 in_X9 tyX9 tyX9_ok q826 q827 q98 (ci := 7) (fs := [.null, .int 0, .int 0]) rfl (by decide) (fun f z => by cases z) (by decide) (by decide) hw.1 dX8_order_435 (fun q63 frq63 nxq63 σ64 eσ64 => ?_)
                    have hw := hw.2 q63 frq63 nxq63 σ64 eσ64
                    refine a_dup (pc := 438) C dX8_order_438 rfl ?_
                    refine a_aload_1 (pc := 439) C dX8_order_439 ?_
                    refine a_iconst (pc := 440) C dX8_order_440 ic_0 ?_
                    refine a_iconst (pc := 441) C dX8_order_441 ic_0 ?_
                    refine o_callINv (pc := 442) C hs [.ref r21, .int 0, .int 0] (b := q63) (st := [.ref q63]) (fun h n u hB => ct_X9_init l G q63 _ _ _ E _ _ hw h n u hB) (by decide) (by decide) q878 q879 q98 rfl (lw_meth q880) sg_X9_init (Nat.le_of_ble_eq_true rfl) dX8_order_442 (fun σ65 hw => ?_)
                    exact a_xret (a_aret (Or.inl ⟨_, rfl⟩) (Or.inr ⟨_, rfl⟩) C dX8_order_445 (fun h n u hV => ⟨⟨(_, _), rfl, hw, hV⟩, o_end hs hV⟩))
                  · have hw := hw.2 c30_6
                    by_cases c30_7 : x29 = 7
                    · have hw := hw.1 c30_7
                      refine a_tableIn (pc := 317) C 446 dX8_order_317 (by rw [c30_7]; decide) (by rw [c30_7]; decide) (by rw [c30_7]; rfl) (by decide) ?_
                      refine a_aload_0 (pc := 446) C dX8_order_446 ?_
                      refine a_bipush (pc := 447) C dX8_order_447 bc_48 ?_
                      refine a_bipush (pc := 449) C dX8_order_449 bc_51 ?_
                      refine o_callXVi (pc := 451) C hs [.int 48, .int 51] (b := a) (ci := 6) (st := []) (fun h n u hB => ct_X8_sign l G a _ _ E _ _ _ hw.2 h n u hB) (by decide) (by decide) rfl hw.1 q95 q832 q834 qs3 (lw_meth q835) sg_X8_sign (Nat.le_of_ble_eq_true rfl) dX8_order_451 (fun v67 σ66 hw => ?_) (fun k9 σx hx => ?_)
                      · refine a_bipush (pc := 454) C dX8_order_454 bc_48 ?_
                        refine a_isub (pc := 456) C dX8_order_456 ?_
                        refine a_istore_5 (pc := 457) C dX8_order_457 (by decide) rfl ?_
                        refine o_newC (pc := 459) C hs 1 in_X9 tyX9 tyX9_ok q826 q827 q98 (ci := 7) (fs := [.null, .int 0, .int 0]) rfl (by decide) (fun f z => by cases z) (by decide) (by decide) hw.1 dX8_order_459 (fun q68 frq68 nxq68 σ69 eσ69 => ?_)
                        have hw := hw.2 q68 frq68 nxq68 σ69 eσ69
                        refine a_dup (pc := 462) C dX8_order_462 rfl ?_
                        refine a_aload_1 (pc := 463) C dX8_order_463 ?_
                        refine a_iload_5 (pc := 464) C dX8_order_464 ?_
                        refine a_aload_0 (pc := 466) C dX8_order_466 ?_
                        refine a_bipush (pc := 467) C dX8_order_467 bc_61 ?_
                        refine o_callXVi (pc := 469) C hs [.int 61] (b := a) (ci := 6) (st := [.int (v67 - 48), .ref r21, .ref q68, .ref q68]) (fun h n u hB => ct_X8_step l G a _ E _ _ _ hw.2 h n u hB) (by decide) (by decide) rfl hw.1 q95 q896 q898 qs6 (lw_meth q899) sg_X8_step (Nat.le_of_ble_eq_true rfl) dX8_order_469 (fun v71 σ70 hw => ?_) (fun k9 σx hx => ?_)
                        · refine o_callINv (pc := 472) C hs [.ref r21, .int (v67 - 48), .int v71] (b := q68) (st := [.ref q68]) (fun h n u hB => ct_X9_init l G q68 _ _ _ E _ _ hw h n u hB) (by decide) (by decide) q878 q879 q98 rfl (lw_meth q880) sg_X9_init (Nat.le_of_ble_eq_true rfl) dX8_order_472 (fun σ72 hw => ?_)
                          exact a_xret (a_aret (Or.inl ⟨_, rfl⟩) (Or.inr ⟨_, rfl⟩) C dX8_order_475 (fun h n u hV => ⟨⟨(_, _), rfl, hw, hV⟩, o_end hs hV⟩))
                        · exact ax_out C (fun x hx => (ht x hx).elim) (fun h n u hV => ⟨⟨k9, σx, rfl, hx, hV.1.same rfl rfl rfl, hV.2.2.2.2.2.1⟩, o_end hs hV⟩)
                      · exact ax_out C (fun x hx => (ht x hx).elim) (fun h n u hV => ⟨⟨k9, σx, rfl, hx, hV.1.same rfl rfl rfl, hV.2.2.2.2.2.1⟩, o_end hs hV⟩)
                    · have hw := hw.2 c30_7
                      by_cases c30_8 : x29 = 8
                      · have hw := hw.1 c30_8
                        refine a_tableIn (pc := 317) C 446 dX8_order_317 (by rw [c30_8]; decide) (by rw [c30_8]; decide) (by rw [c30_8]; rfl) (by decide) ?_
                        refine a_aload_0 (pc := 446) C dX8_order_446 ?_
                        refine a_bipush (pc := 447) C dX8_order_447 bc_48 ?_
                        refine a_bipush (pc := 449) C dX8_order_449 bc_51 ?_
                        refine o_callXVi (pc := 451) C hs [.int 48, .int 51] (b := a) (ci := 6) (st := []) (fun h n u hB => ct_X8_sign l G a _ _ E _ _ _ hw.2 h n u hB) (by decide) (by decide) rfl hw.1 q95 q832 q834 qs3 (lw_meth q835) sg_X8_sign (Nat.le_of_ble_eq_true rfl) dX8_order_451 (fun v74 σ73 hw => ?_) (fun k9 σx hx => ?_)
                        · refine a_bipush (pc := 454) C dX8_order_454 bc_48 ?_
                          refine a_isub (pc := 456) C dX8_order_456 ?_
                          refine a_istore_5 (pc := 457) C dX8_order_457 (by decide) rfl ?_
                          refine o_newC (pc := 459) C hs 1 in_X9 tyX9 tyX9_ok q826 q827 q98 (ci := 7) (fs := [.null, .int 0, .int 0]) rfl (by decide) (fun f z => by cases z) (by decide) (by decide) hw.1 dX8_order_459 (fun q75 frq75 nxq75 σ76 eσ76 => ?_)
                          have hw := hw.2 q75 frq75 nxq75 σ76 eσ76
                          refine a_dup (pc := 462) C dX8_order_462 rfl ?_
                          refine a_aload_1 (pc := 463) C dX8_order_463 ?_
                          refine a_iload_5 (pc := 464) C dX8_order_464 ?_
                          refine a_aload_0 (pc := 466) C dX8_order_466 ?_
                          refine a_bipush (pc := 467) C dX8_order_467 bc_61 ?_
                          refine o_callXVi (pc := 469) C hs [.int 61] (b := a) (ci := 6) (st := [.int (v74 - 48), .ref r21, .ref q75, .ref q75]) (fun h n u hB => ct_X8_step l G a _ E _ _ _ hw.2 h n u hB) (by decide) (by decide) rfl hw.1 q95 q896 q898 qs6 (lw_meth q899) sg_X8_step (Nat.le_of_ble_eq_true rfl) dX8_order_469 (fun v78 σ77 hw => ?_) (fun k9 σx hx => ?_)
                          · refine o_callINv (pc := 472) C hs [.ref r21, .int (v74 - 48), .int v78] (b := q75) (st := [.ref q75]) (fun h n u hB => ct_X9_init l G q75 _ _ _ E _ _ hw h n u hB) (by decide) (by decide) q878 q879 q98 rfl (lw_meth q880) sg_X9_init (Nat.le_of_ble_eq_true rfl) dX8_order_472 (fun σ79 hw => ?_)
                            exact a_xret (a_aret (Or.inl ⟨_, rfl⟩) (Or.inr ⟨_, rfl⟩) C dX8_order_475 (fun h n u hV => ⟨⟨(_, _), rfl, hw, hV⟩, o_end hs hV⟩))
                          · exact ax_out C (fun x hx => (ht x hx).elim) (fun h n u hV => ⟨⟨k9, σx, rfl, hx, hV.1.same rfl rfl rfl, hV.2.2.2.2.2.1⟩, o_end hs hV⟩)
                        · exact ax_out C (fun x hx => (ht x hx).elim) (fun h n u hV => ⟨⟨k9, σx, rfl, hx, hV.1.same rfl rfl rfl, hV.2.2.2.2.2.1⟩, o_end hs hV⟩)
                      · have hw := hw.2 c30_8
                        by_cases c30_9 : x29 = 9
                        · have hw := hw.1 c30_9
                          refine a_tableIn (pc := 317) C 446 dX8_order_317 (by rw [c30_9]; decide) (by rw [c30_9]; decide) (by rw [c30_9]; rfl) (by decide) ?_
                          refine a_aload_0 (pc := 446) C dX8_order_446 ?_
                          refine a_bipush (pc := 447) C dX8_order_447 bc_48 ?_
                          refine a_bipush (pc := 449) C dX8_order_449 bc_51 ?_
                          refine o_callXVi (pc := 451) C hs [.int 48, .int 51] (b := a) (ci := 6) (st := []) (fun h n u hB => ct_X8_sign l G a _ _ E _ _ _ hw.2 h n u hB) (by decide) (by decide) rfl hw.1 q95 q832 q834 qs3 (lw_meth q835) sg_X8_sign (Nat.le_of_ble_eq_true rfl) dX8_order_451 (fun v81 σ80 hw => ?_) (fun k9 σx hx => ?_)
                          · refine a_bipush (pc := 454) C dX8_order_454 bc_48 ?_
                            refine a_isub (pc := 456) C dX8_order_456 ?_
                            refine a_istore_5 (pc := 457) C dX8_order_457 (by decide) rfl ?_
                            refine o_newC (pc := 459) C hs 1 in_X9 tyX9 tyX9_ok q826 q827 q98 (ci := 7) (fs := [.null, .int 0, .int 0]) rfl (by decide) (fun f z => by cases z) (by decide) (by decide) hw.1 dX8_order_459 (fun q82 frq82 nxq82 σ83 eσ83 => ?_)
                            have hw := hw.2 q82 frq82 nxq82 σ83 eσ83
                            refine a_dup (pc := 462) C dX8_order_462 rfl ?_
                            refine a_aload_1 (pc := 463) C dX8_order_463 ?_
                            refine a_iload_5 (pc := 464) C dX8_order_464 ?_
                            refine a_aload_0 (pc := 466) C dX8_order_466 ?_
                            refine a_bipush (pc := 467) C dX8_order_467 bc_61 ?_
                            refine o_callXVi (pc := 469) C hs [.int 61] (b := a) (ci := 6) (st := [.int (v81 - 48), .ref r21, .ref q82, .ref q82]) (fun h n u hB => ct_X8_step l G a _ E _ _ _ hw.2 h n u hB) (by decide) (by decide) rfl hw.1 q95 q896 q898 qs6 (lw_meth q899) sg_X8_step (Nat.le_of_ble_eq_true rfl) dX8_order_469 (fun v85 σ84 hw => ?_) (fun k9 σx hx => ?_)
                            · refine o_callINv (pc := 472) C hs [.ref r21, .int (v81 - 48), .int v85] (b := q82) (st := [.ref q82]) (fun h n u hB => ct_X9_init l G q82 _ _ _ E _ _ hw h n u hB) (by decide) (by decide) q878 q879 q98 rfl (lw_meth q880) sg_X9_init (Nat.le_of_ble_eq_true rfl) dX8_order_472 (fun σ86 hw => ?_)
                              exact a_xret (a_aret (Or.inl ⟨_, rfl⟩) (Or.inr ⟨_, rfl⟩) C dX8_order_475 (fun h n u hV => ⟨⟨(_, _), rfl, hw, hV⟩, o_end hs hV⟩))
                            · exact ax_out C (fun x hx => (ht x hx).elim) (fun h n u hV => ⟨⟨k9, σx, rfl, hx, hV.1.same rfl rfl rfl, hV.2.2.2.2.2.1⟩, o_end hs hV⟩)
                          · exact ax_out C (fun x hx => (ht x hx).elim) (fun h n u hV => ⟨⟨k9, σx, rfl, hx, hV.1.same rfl rfl rfl, hV.2.2.2.2.2.1⟩, o_end hs hV⟩)
                        · have hw := hw.2 c30_9
                          by_cases c30_10 : x29 = 10
                          · have hw := hw.1 c30_10
                            refine a_tableIn (pc := 317) C 476 dX8_order_317 (by rw [c30_10]; decide) (by rw [c30_10]; decide) (by rw [c30_10]; rfl) (by decide) ?_
                            refine o_newC (pc := 476) C hs 1 in_X9 tyX9 tyX9_ok q826 q827 q98 (ci := 7) (fs := [.null, .int 0, .int 0]) rfl (by decide) (fun f z => by cases z) (by decide) (by decide) hw.1 dX8_order_476 (fun q87 frq87 nxq87 σ88 eσ88 => ?_)
                            have hw := hw.2 q87 frq87 nxq87 σ88 eσ88
                            refine a_dup (pc := 479) C dX8_order_479 rfl ?_
                            refine a_aload_1 (pc := 480) C dX8_order_480 ?_
                            refine a_aload_0 (pc := 481) C dX8_order_481 ?_
                            refine a_bipush (pc := 482) C dX8_order_482 bc_49 ?_
                            refine a_bipush (pc := 484) C dX8_order_484 bc_48 ?_
                            refine o_callXVi (pc := 486) C hs [.int 49, .int 48] (b := a) (ci := 6) (st := [.ref r21, .ref q87, .ref q87]) (fun h n u hB => ct_X8_number l G a _ _ E _ _ _ hw.2 h n u hB) (by decide) (by decide) rfl hw.1 q95 q892 q894 qs5 (lw_meth q895) sg_X8_number (Nat.le_of_ble_eq_true rfl) dX8_order_486 (fun v90 σ89 hw => ?_) (fun k9 σx hx => ?_)
                            · refine a_iconst (pc := 489) C dX8_order_489 ic_0 ?_
                              refine o_callINv (pc := 490) C hs [.ref r21, .int v90, .int 0] (b := q87) (st := [.ref q87]) (fun h n u hB => ct_X9_init l G q87 _ _ _ E _ _ hw h n u hB) (by decide) (by decide) q878 q879 q98 rfl (lw_meth q880) sg_X9_init (Nat.le_of_ble_eq_true rfl) dX8_order_490 (fun σ91 hw => ?_)
                              exact a_xret (a_aret (Or.inl ⟨_, rfl⟩) (Or.inr ⟨_, rfl⟩) C dX8_order_493 (fun h n u hV => ⟨⟨(_, _), rfl, hw, hV⟩, o_end hs hV⟩))
                            · exact ax_out C (fun x hx => (ht x hx).elim) (fun h n u hV => ⟨⟨k9, σx, rfl, hx, hV.1.same rfl rfl rfl, hV.2.2.2.2.2.1⟩, o_end hs hV⟩)
                          · have hw := hw.2 c30_10
                            refine a_tableOut (pc := 317) C 494 dX8_order_317 (by have := lv_neT c30_0 (a := 0) (by decide); have := lv_neT c30_1 (a := 1) (by decide); have := lv_neT c30_2 (a := 2) (by decide); have := lv_neT c30_3 (a := 3) (by decide); have := lv_neT c30_4 (a := 4) (by decide); have := lv_neT c30_5 (a := 5) (by decide); have := lv_neT c30_6 (a := 6) (by decide); have := lv_neT c30_7 (a := 7) (by decide); have := lv_neT c30_8 (a := 8) (by decide); have := lv_neT c30_9 (a := 9) (by decide); have := lv_neT c30_10 (a := 10) (by decide); omega) (by decide) ?_
                            refine a_aload_0 (pc := 494) C dX8_order_494 ?_
                            refine a_dup (pc := 495) C dX8_order_495 rfl ?_
                            obtain ⟨x92, fx92, hw⟩ := hw
                            refine a_getf (pc := 496) C (ref := "MaltDrums$Reader") in_X8 (ci := 6) rfl 0 (by decide) q675 rfl (fun h n u hV => o_fld fx92 hV) dX8_order_496 ?_
                            refine a_iconst (pc := 499) C dX8_order_499 ic_1 ?_
                            refine a_isub (pc := 500) C dX8_order_500 ?_
                            obtain ⟨fs94, ffs94, kfs94, hw⟩ := hw
                            refine a_putf (pc := 501) C (ref := "MaltDrums$Reader") (V1 := OW h0 n0 u0 E σ.2.2.1 (oPut σ25 a (.inr (6, fs94.set 0 (.int (x92 - 1)))))) in_X8 tyX8 tyX8_ok nmX8 (ci := 6) rfl 0 (by decide) q675 rfl rfl rfl rfl (fun h n u hV => o_put (by decide) ffs94 kfs94 hV) dX8_order_501 (o_top (fun σ93 eσ93 => ?_))
                            have hw := hw σ93 eσ93
                            refine o_newC (pc := 504) C hs 1 in_X10 tyX10 tyX10_ok q858 q859 q99 (ci := 8) (fs := [.null, .null, .null, .null, .null, .int 0]) rfl (by decide) (fun f z => by cases z) (by decide) (by decide) hw.1 dX8_order_504 (fun q95 frq95 nxq95 σ96 eσ96 => ?_)
                            have hw := hw.2 q95 frq95 nxq95 σ96 eσ96
                            refine a_dup (pc := 507) C dX8_order_507 rfl ?_
                            refine o_callIv (pc := 508) C hs [] (b := q95) (st := [.ref q95]) (fun h n u hB => ct_X10_init l G q95 E _ _ hw h n u hB) (by decide) (by decide) q99 q867 q868 rfl (lw_meth q869) sg_X10_init (Nat.le_of_ble_eq_true rfl) dX8_order_508 (fun σ97 hw => ?_)
                            exact a_athrow (pc := 511) C (fun h n u hV => o_cls hw.1 hV) dX8_order_511 (ax_out C (fun x hx => (ht x hx).elim) (fun h n u hV => ⟨⟨3, _, rfl, hw.2, hV.1.same rfl rfl rfl, hV.2.2.2.2.2.1⟩, o_end hs hV⟩))
    by_cases c27_0 : v26 = 43
    · have hw := hw.1 c27_0
      refine a_lookup (pc := 61) C 160 dX8_order_61 (by decide) (by rw [c27_0]; try decide) (by decide) ?_
      refine a_aload_2 (pc := 160) C dX8_order_160 ?_
      refine a_ldcS (pc := 161) C ((C.SC.2.2.2.2.2.2 1 _ rfl).1) dX8_order_161 ?_
      obtain ⟨v98, x100, x101, f99, y1, y2, hw⟩ := hw
      refine o_strEq (pc := 163) C hs 1 (st := []) (ch := 43) rfl rfl y1 y2 (by decide) q808 (Nat.le_of_ble_eq_true rfl) dX8_order_163 (fun v102 ev102 => ?_)
      have hw := hw v102 ev102
      refine a_if_eq (pc := 166) C 316 dX8_order_166 (by decide) (fun c103 => ?_) (fun c103 => ?_)
      · have hw := hw.1 c103
        exact hkj28 _ hw
      · have hw := hw.2 c103
        refine a_iconst (pc := 169) C dX8_order_169 ic_0 ?_
        refine a_istore_3 (pc := 170) C dX8_order_170 (by decide) rfl ?_
        refine a_goto (pc := 171) C 316 dX8_order_171 (by decide) ?_
        exact hkj28 _ hw
    · have hw := hw.2 c27_0
      by_cases c27_1 : v26 = 97
      · have hw := hw.1 c27_1
        refine a_lookup (pc := 61) C 259 dX8_order_61 (by decide) (by rw [c27_1]; try decide) (by decide) ?_
        refine a_aload_2 (pc := 259) C dX8_order_259 ?_
        refine a_ldcS (pc := 260) C ((C.SC.2.2.2.2.2.2 8 _ rfl).1) dX8_order_260 ?_
        obtain ⟨v104, x106, x107, f105, y1, y2, hw⟩ := hw
        refine o_strEq (pc := 262) C hs 8 (st := []) (ch := 97) rfl rfl y1 y2 (by decide) q808 (Nat.le_of_ble_eq_true rfl) dX8_order_262 (fun v108 ev108 => ?_)
        have hw := hw v108 ev108
        refine a_if_eq (pc := 265) C 316 dX8_order_265 (by decide) (fun c109 => ?_) (fun c109 => ?_)
        · have hw := hw.1 c109
          exact hkj28 _ hw
        · have hw := hw.2 c109
          refine a_bipush (pc := 268) C dX8_order_268 bc_7 ?_
          refine a_istore_3 (pc := 270) C dX8_order_270 (by decide) rfl ?_
          refine a_goto (pc := 271) C 316 dX8_order_271 (by decide) ?_
          exact hkj28 _ hw
      · have hw := hw.2 c27_1
        by_cases c27_2 : v26 = 100
        · have hw := hw.1 c27_2
          refine a_lookup (pc := 61) C 230 dX8_order_61 (by decide) (by rw [c27_2]; try decide) (by decide) ?_
          refine a_aload_2 (pc := 230) C dX8_order_230 ?_
          refine a_ldcS (pc := 231) C ((C.SC.2.2.2.2.2.2 6 _ rfl).1) dX8_order_231 ?_
          obtain ⟨v110, x112, x113, f111, y1, y2, hw⟩ := hw
          refine o_strEq (pc := 233) C hs 6 (st := []) (ch := 100) rfl rfl y1 y2 (by decide) q808 (Nat.le_of_ble_eq_true rfl) dX8_order_233 (fun v114 ev114 => ?_)
          have hw := hw v114 ev114
          refine a_if_eq (pc := 236) C 316 dX8_order_236 (by decide) (fun c115 => ?_) (fun c115 => ?_)
          · have hw := hw.1 c115
            exact hkj28 _ hw
          · have hw := hw.2 c115
            refine a_iconst (pc := 239) C dX8_order_239 ic_5 ?_
            refine a_istore_3 (pc := 240) C dX8_order_240 (by decide) rfl ?_
            refine a_goto (pc := 241) C 316 dX8_order_241 (by decide) ?_
            exact hkj28 _ hw
        · have hw := hw.2 c27_2
          by_cases c27_3 : v26 = 104
          · have hw := hw.1 c27_3
            refine a_lookup (pc := 61) C 188 dX8_order_61 (by decide) (by rw [c27_3]; try decide) (by decide) ?_
            refine a_aload_2 (pc := 188) C dX8_order_188 ?_
            refine a_ldcS (pc := 189) C ((C.SC.2.2.2.2.2.2 3 _ rfl).1) dX8_order_189 ?_
            obtain ⟨v116, x118, x119, f117, y1, y2, hw⟩ := hw
            refine o_strEq (pc := 191) C hs 3 (st := []) (ch := 104) rfl rfl y1 y2 (by decide) q808 (Nat.le_of_ble_eq_true rfl) dX8_order_191 (fun v120 ev120 => ?_)
            have hw := hw v120 ev120
            refine a_if_eq (pc := 194) C 316 dX8_order_194 (by decide) (fun c121 => ?_) (fun c121 => ?_)
            · have hw := hw.1 c121
              exact hkj28 _ hw
            · have hw := hw.2 c121
              refine a_iconst (pc := 197) C dX8_order_197 ic_2 ?_
              refine a_istore_3 (pc := 198) C dX8_order_198 (by decide) rfl ?_
              refine a_goto (pc := 199) C 316 dX8_order_199 (by decide) ?_
              exact hkj28 _ hw
          · have hw := hw.2 c27_3
            by_cases c27_4 : v26 = 107
            · have hw := hw.1 c27_4
              refine a_lookup (pc := 61) C 202 dX8_order_61 (by decide) (by rw [c27_4]; try decide) (by decide) ?_
              refine a_aload_2 (pc := 202) C dX8_order_202 ?_
              refine a_ldcS (pc := 203) C ((C.SC.2.2.2.2.2.2 4 _ rfl).1) dX8_order_203 ?_
              obtain ⟨v122, x124, x125, f123, y1, y2, hw⟩ := hw
              refine o_strEq (pc := 205) C hs 4 (st := []) (ch := 107) rfl rfl y1 y2 (by decide) q808 (Nat.le_of_ble_eq_true rfl) dX8_order_205 (fun v126 ev126 => ?_)
              have hw := hw v126 ev126
              refine a_if_eq (pc := 208) C 316 dX8_order_208 (by decide) (fun c127 => ?_) (fun c127 => ?_)
              · have hw := hw.1 c127
                exact hkj28 _ hw
              · have hw := hw.2 c127
                refine a_iconst (pc := 211) C dX8_order_211 ic_3 ?_
                refine a_istore_3 (pc := 212) C dX8_order_212 (by decide) rfl ?_
                refine a_goto (pc := 213) C 316 dX8_order_213 (by decide) ?_
                exact hkj28 _ hw
            · have hw := hw.2 c27_4
              by_cases c27_5 : v26 = 108
              · have hw := hw.1 c27_5
                refine a_lookup (pc := 61) C 244 dX8_order_61 (by decide) (by rw [c27_5]; try decide) (by decide) ?_
                refine a_aload_2 (pc := 244) C dX8_order_244 ?_
                refine a_ldcS (pc := 245) C ((C.SC.2.2.2.2.2.2 7 _ rfl).1) dX8_order_245 ?_
                obtain ⟨v128, x130, x131, f129, y1, y2, hw⟩ := hw
                refine o_strEq (pc := 247) C hs 7 (st := []) (ch := 108) rfl rfl y1 y2 (by decide) q808 (Nat.le_of_ble_eq_true rfl) dX8_order_247 (fun v132 ev132 => ?_)
                have hw := hw v132 ev132
                refine a_if_eq (pc := 250) C 316 dX8_order_250 (by decide) (fun c133 => ?_) (fun c133 => ?_)
                · have hw := hw.1 c133
                  exact hkj28 _ hw
                · have hw := hw.2 c133
                  refine a_bipush (pc := 253) C dX8_order_253 bc_6 ?_
                  refine a_istore_3 (pc := 255) C dX8_order_255 (by decide) rfl ?_
                  refine a_goto (pc := 256) C 316 dX8_order_256 (by decide) ?_
                  exact hkj28 _ hw
              · have hw := hw.2 c27_5
                by_cases c27_6 : v26 = 110
                · have hw := hw.1 c27_6
                  refine a_lookup (pc := 61) C 304 dX8_order_61 (by decide) (by rw [c27_6]; try decide) (by decide) ?_
                  refine a_aload_2 (pc := 304) C dX8_order_304 ?_
                  refine a_ldcS (pc := 305) C ((C.SC.2.2.2.2.2.2 11 _ rfl).1) dX8_order_305 ?_
                  obtain ⟨v134, x136, x137, f135, y1, y2, hw⟩ := hw
                  refine o_strEq (pc := 307) C hs 11 (st := []) (ch := 110) rfl rfl y1 y2 (by decide) q808 (Nat.le_of_ble_eq_true rfl) dX8_order_307 (fun v138 ev138 => ?_)
                  have hw := hw v138 ev138
                  refine a_if_eq (pc := 310) C 316 dX8_order_310 (by decide) (fun c139 => ?_) (fun c139 => ?_)
                  · have hw := hw.1 c139
                    exact hkj28 _ hw
                  · have hw := hw.2 c139
                    refine a_bipush (pc := 313) C dX8_order_313 bc_10 ?_
                    refine a_istore_3 (pc := 315) C dX8_order_315 (by decide) rfl ?_
                    exact hkj28 _ hw
                · have hw := hw.2 c27_6
                  by_cases c27_7 : v26 = 112
                  · have hw := hw.1 c27_7
                    refine a_lookup (pc := 61) C 216 dX8_order_61 (by decide) (by rw [c27_7]; try decide) (by decide) ?_
                    refine a_aload_2 (pc := 216) C dX8_order_216 ?_
                    refine a_ldcS (pc := 217) C ((C.SC.2.2.2.2.2.2 5 _ rfl).1) dX8_order_217 ?_
                    obtain ⟨v140, x142, x143, f141, y1, y2, hw⟩ := hw
                    refine o_strEq (pc := 219) C hs 5 (st := []) (ch := 112) rfl rfl y1 y2 (by decide) q808 (Nat.le_of_ble_eq_true rfl) dX8_order_219 (fun v144 ev144 => ?_)
                    have hw := hw v144 ev144
                    refine a_if_eq (pc := 222) C 316 dX8_order_222 (by decide) (fun c145 => ?_) (fun c145 => ?_)
                    · have hw := hw.1 c145
                      exact hkj28 _ hw
                    · have hw := hw.2 c145
                      refine a_iconst (pc := 225) C dX8_order_225 ic_4 ?_
                      refine a_istore_3 (pc := 226) C dX8_order_226 (by decide) rfl ?_
                      refine a_goto (pc := 227) C 316 dX8_order_227 (by decide) ?_
                      exact hkj28 _ hw
                  · have hw := hw.2 c27_7
                    by_cases c27_8 : v26 = 115
                    · have hw := hw.1 c27_8
                      refine a_lookup (pc := 61) C 174 dX8_order_61 (by decide) (by rw [c27_8]; try decide) (by decide) ?_
                      refine a_aload_2 (pc := 174) C dX8_order_174 ?_
                      refine a_ldcS (pc := 175) C ((C.SC.2.2.2.2.2.2 2 _ rfl).1) dX8_order_175 ?_
                      obtain ⟨v146, x148, x149, f147, y1, y2, hw⟩ := hw
                      refine o_strEq (pc := 177) C hs 2 (st := []) (ch := 115) rfl rfl y1 y2 (by decide) q808 (Nat.le_of_ble_eq_true rfl) dX8_order_177 (fun v150 ev150 => ?_)
                      have hw := hw v150 ev150
                      refine a_if_eq (pc := 180) C 316 dX8_order_180 (by decide) (fun c151 => ?_) (fun c151 => ?_)
                      · have hw := hw.1 c151
                        exact hkj28 _ hw
                      · have hw := hw.2 c151
                        refine a_iconst (pc := 183) C dX8_order_183 ic_1 ?_
                        refine a_istore_3 (pc := 184) C dX8_order_184 (by decide) rfl ?_
                        refine a_goto (pc := 185) C 316 dX8_order_185 (by decide) ?_
                        exact hkj28 _ hw
                    · have hw := hw.2 c27_8
                      by_cases c27_9 : v26 = 116
                      · have hw := hw.1 c27_9
                        refine a_lookup (pc := 61) C 289 dX8_order_61 (by decide) (by rw [c27_9]; try decide) (by decide) ?_
                        refine a_aload_2 (pc := 289) C dX8_order_289 ?_
                        refine a_ldcS (pc := 290) C ((C.SC.2.2.2.2.2.2 10 _ rfl).1) dX8_order_290 ?_
                        obtain ⟨v152, x154, x155, f153, y1, y2, hw⟩ := hw
                        refine o_strEq (pc := 292) C hs 10 (st := []) (ch := 116) rfl rfl y1 y2 (by decide) q808 (Nat.le_of_ble_eq_true rfl) dX8_order_292 (fun v156 ev156 => ?_)
                        have hw := hw v156 ev156
                        refine a_if_eq (pc := 295) C 316 dX8_order_295 (by decide) (fun c157 => ?_) (fun c157 => ?_)
                        · have hw := hw.1 c157
                          exact hkj28 _ hw
                        · have hw := hw.2 c157
                          refine a_bipush (pc := 298) C dX8_order_298 bc_9 ?_
                          refine a_istore_3 (pc := 300) C dX8_order_300 (by decide) rfl ?_
                          refine a_goto (pc := 301) C 316 dX8_order_301 (by decide) ?_
                          exact hkj28 _ hw
                      · have hw := hw.2 c27_9
                        by_cases c27_10 : v26 = 119
                        · have hw := hw.1 c27_10
                          refine a_lookup (pc := 61) C 274 dX8_order_61 (by decide) (by rw [c27_10]; try decide) (by decide) ?_
                          refine a_aload_2 (pc := 274) C dX8_order_274 ?_
                          refine a_ldcS (pc := 275) C ((C.SC.2.2.2.2.2.2 9 _ rfl).1) dX8_order_275 ?_
                          obtain ⟨v158, x160, x161, f159, y1, y2, hw⟩ := hw
                          refine o_strEq (pc := 277) C hs 9 (st := []) (ch := 119) rfl rfl y1 y2 (by decide) q808 (Nat.le_of_ble_eq_true rfl) dX8_order_277 (fun v162 ev162 => ?_)
                          have hw := hw v162 ev162
                          refine a_if_eq (pc := 280) C 316 dX8_order_280 (by decide) (fun c163 => ?_) (fun c163 => ?_)
                          · have hw := hw.1 c163
                            exact hkj28 _ hw
                          · have hw := hw.2 c163
                            refine a_bipush (pc := 283) C dX8_order_283 bc_8 ?_
                            refine a_istore_3 (pc := 285) C dX8_order_285 (by decide) rfl ?_
                            refine a_goto (pc := 286) C 316 dX8_order_286 (by decide) ?_
                            exact hkj28 _ hw
                        · have hw := hw.2 c27_10
                          refine a_lookup (pc := 61) (off := 255) C 316 dX8_order_61 (by decide) (by have y0 := lv_neT c27_0 (a := 43) (by decide); have y1 := lv_neT c27_1 (a := 97) (by decide); have y2 := lv_neT c27_2 (a := 100) (by decide); have y3 := lv_neT c27_3 (a := 104) (by decide); have y4 := lv_neT c27_4 (a := 107) (by decide); have y5 := lv_neT c27_5 (a := 108) (by decide); have y6 := lv_neT c27_6 (a := 110) (by decide); have y7 := lv_neT c27_7 (a := 112) (by decide); have y8 := lv_neT c27_8 (a := 115) (by decide); have y9 := lv_neT c27_9 (a := 116) (by decide); have y10 := lv_neT c27_10 (a := 119) (by decide); simp only [Op.lookupswitch.offset_cons, Op.lookupswitch.offset_nil]; repeat rw [if_neg (by omega)]) (by decide) ?_
                          exact hkj28 _ hw
def wp_X1_can (a : Nat) (p1 : Nat) (σ : OS) (Q : Int32 → OS → Prop) : Prop := (oC σ p1 7 ∧ wp_X9_one p1 σ (fun v2 σ1 => (oC σ1 p1 7 ∧ wp_X9_sign p1 σ1 (fun r4 σ3 => (oC σ3 r4 11 ∧ wp_J5_hashCode r4 σ3 (fun v6 σ5 => (jn (fun (x9 : Int32) => ((x9 = 0 → (∃ r11 : Nat, oF σ5 a 0 0 (.ref r11) ∧ (∃ w12 : MS × List Int32, σ5.2.1 r11 = some w12 ∧ (((12 ≤ (w12.1 11 1)) → (Q 0 σ5)) ∧ ((¬ 12 ≤ (w12.1 11 1)) → (Q 1 σ5)))))) ∧ (¬ x9 = 0 → ((x9 = 1 → (∃ r14 : Nat, oF σ5 a 0 0 (.ref r14) ∧ (∃ w15 : MS × List Int32, σ5.2.1 r14 = some w15 ∧ wp_X2_isLot v2 (w15.1, w15.2, σ5.2.2.1) (fun v18 s16 => ∀ σ17 : OS, σ17 = oHc σ5 r14 s16 → (((v18 = 0) → (Q 0 σ17)) ∧ ((¬ v18 = 0) → (∃ r20 : Nat, oF σ17 a 0 0 (.ref r20) ∧ (∃ w21 : MS × List Int32, σ17.2.1 r20 = some w21 ∧ wp_X2_whyNotSteep v2 (w21.1, w21.2, σ17.2.2.1) (fun v24 s22 => ∀ σ23 : OS, σ23 = oHc σ17 r20 s22 → (((¬ v24 = 0) → (Q 0 σ23)) ∧ ((v24 = 0) → (Q 1 σ23)))))))))))) ∧ (¬ x9 = 1 → ((x9 = 2 → (∃ r26 : Nat, oF σ5 a 0 0 (.ref r26) ∧ (∃ w27 : MS × List Int32, σ5.2.1 r26 = some w27 ∧ wp_X2_isLot v2 (w27.1, w27.2, σ5.2.2.1) (fun v30 s28 => ∀ σ29 : OS, σ29 = oHc σ5 r26 s28 → (((v30 = 0) → (Q 0 σ29)) ∧ ((¬ v30 = 0) → (∃ r32 : Nat, oF σ29 a 0 0 (.ref r32) ∧ (oC σ29 p1 7 ∧ wp_X9_two p1 σ29 (fun v34 σ33 => (∃ w35 : MS × List Int32, σ33.2.1 r32 = some w35 ∧ wp_X2_whyNotDrum v2 v34 (w35.1, w35.2, σ33.2.2.1) (fun v38 s36 => ∀ σ37 : OS, σ37 = oHc σ33 r32 s36 → (((¬ v38 = 0) → (Q 0 σ37)) ∧ ((v38 = 0) → (Q 1 σ37)))))))))))))) ∧ (¬ x9 = 2 → ((x9 = 3 → (∃ r40 : Nat, oF σ5 a 0 0 (.ref r40) ∧ (∃ w41 : MS × List Int32, σ5.2.1 r40 = some w41 ∧ wp_X2_isLot v2 (w41.1, w41.2, σ5.2.2.1) (fun v44 s42 => ∀ σ43 : OS, σ43 = oHc σ5 r40 s42 → (((v44 = 0) → (Q 0 σ43)) ∧ ((¬ v44 = 0) → (∃ r46 : Nat, oF σ43 a 0 0 (.ref r46) ∧ (∃ w47 : MS × List Int32, σ43.2.1 r46 = some w47 ∧ wp_X2_canHeap v2 (w47.1, w47.2, σ43.2.2.1) (fun v50 s48 => ∀ σ49 : OS, σ49 = oHc σ43 r46 s48 → (((v50 = 0) → (Q 0 σ49)) ∧ ((¬ v50 = 0) → (Q 1 σ49)))))))))))) ∧ (¬ x9 = 3 → ((x9 = 4 → (∃ r52 : Nat, oF σ5 a 0 0 (.ref r52) ∧ (∃ w53 : MS × List Int32, σ5.2.1 r52 = some w53 ∧ wp_X2_isLot v2 (w53.1, w53.2, σ5.2.2.1) (fun v56 s54 => ∀ σ55 : OS, σ55 = oHc σ5 r52 s54 → (((v56 = 0) → (Q 0 σ55)) ∧ ((¬ v56 = 0) → (∃ r58 : Nat, oF σ55 a 0 0 (.ref r58) ∧ (∃ w59 : MS × List Int32, σ55.2.1 r58 = some w59 ∧ wp_X2_whyNotLoad v2 (w59.1, w59.2, σ55.2.2.1) (fun v62 s60 => ∀ σ61 : OS, σ61 = oHc σ55 r58 s60 → (((¬ v62 = 0) → (Q 0 σ61)) ∧ ((v62 = 0) → (Q 1 σ61)))))))))))) ∧ (¬ x9 = 4 → ((x9 = 5 → (∃ r64 : Nat, oF σ5 a 0 0 (.ref r64) ∧ (∃ w65 : MS × List Int32, σ5.2.1 r64 = some w65 ∧ wp_X2_isLot v2 (w65.1, w65.2, σ5.2.2.1) (fun v68 s66 => ∀ σ67 : OS, σ67 = oHc σ5 r64 s66 → (((v68 = 0) → (Q 0 σ67)) ∧ ((¬ v68 = 0) → (∃ r70 : Nat, oF σ67 a 0 0 (.ref r70) ∧ (∃ w71 : MS × List Int32, σ67.2.1 r70 = some w71 ∧ wp_X2_whyNotSpray v2 (w71.1, w71.2, σ67.2.2.1) (fun v74 s72 => ∀ σ73 : OS, σ73 = oHc σ67 r70 s72 → (((¬ v74 = 0) → (Q 0 σ73)) ∧ ((v74 = 0) → (Q 1 σ73)))))))))))) ∧ (¬ x9 = 5 → ((x9 = 6 → (∃ r76 : Nat, oF σ5 a 0 0 (.ref r76) ∧ (∃ w77 : MS × List Int32, σ5.2.1 r76 = some w77 ∧ wp_X2_canLight (w77.1, w77.2, σ5.2.2.1) (fun v80 s78 => ∀ σ79 : OS, σ79 = oHc σ5 r76 s78 → ((v80 = 0 ∨ v80 = 1) ∧ (Q v80 σ79)))))) ∧ (¬ x9 = 6 → (Q 1 σ5)))))))))))))))) (fun kj8 => ((v6 = 43 → (∃ (v81 : Nat) (x83 : Int32) (x84 : Int32) (f82 : Nat → Int32), σ5.1 r4 = some (.inr (11, [.ref v81, .int 0, .int x83, .int x84])) ∧ σ5.1 v81 = some (.inl (2, 1, .inl f82)) ∧ ∀ v85 : Int32, v85 = (if f82 0 = 43 then 1 else 0) → (((v85 = 0) → (kj8 ((-1)))) ∧ ((¬ v85 = 0) → (kj8 0))))) ∧ (¬ v6 = 43 → ((v6 = 100 → (∃ (v87 : Nat) (x89 : Int32) (x90 : Int32) (f88 : Nat → Int32), σ5.1 r4 = some (.inr (11, [.ref v87, .int 0, .int x89, .int x90])) ∧ σ5.1 v87 = some (.inl (2, 1, .inl f88)) ∧ ∀ v91 : Int32, v91 = (if f88 0 = 100 then 1 else 0) → (((v91 = 0) → (kj8 ((-1)))) ∧ ((¬ v91 = 0) → (kj8 2))))) ∧ (¬ v6 = 100 → ((v6 = 104 → (∃ (v93 : Nat) (x95 : Int32) (x96 : Int32) (f94 : Nat → Int32), σ5.1 r4 = some (.inr (11, [.ref v93, .int 0, .int x95, .int x96])) ∧ σ5.1 v93 = some (.inl (2, 1, .inl f94)) ∧ ∀ v97 : Int32, v97 = (if f94 0 = 104 then 1 else 0) → (((v97 = 0) → (kj8 ((-1)))) ∧ ((¬ v97 = 0) → (kj8 3))))) ∧ (¬ v6 = 104 → ((v6 = 107 → (∃ (v99 : Nat) (x101 : Int32) (x102 : Int32) (f100 : Nat → Int32), σ5.1 r4 = some (.inr (11, [.ref v99, .int 0, .int x101, .int x102])) ∧ σ5.1 v99 = some (.inl (2, 1, .inl f100)) ∧ ∀ v103 : Int32, v103 = (if f100 0 = 107 then 1 else 0) → (((v103 = 0) → (kj8 ((-1)))) ∧ ((¬ v103 = 0) → (kj8 4))))) ∧ (¬ v6 = 107 → ((v6 = 108 → (∃ (v105 : Nat) (x107 : Int32) (x108 : Int32) (f106 : Nat → Int32), σ5.1 r4 = some (.inr (11, [.ref v105, .int 0, .int x107, .int x108])) ∧ σ5.1 v105 = some (.inl (2, 1, .inl f106)) ∧ ∀ v109 : Int32, v109 = (if f106 0 = 108 then 1 else 0) → (((v109 = 0) → (kj8 ((-1)))) ∧ ((¬ v109 = 0) → (kj8 6))))) ∧ (¬ v6 = 108 → ((v6 = 112 → (∃ (v111 : Nat) (x113 : Int32) (x114 : Int32) (f112 : Nat → Int32), σ5.1 r4 = some (.inr (11, [.ref v111, .int 0, .int x113, .int x114])) ∧ σ5.1 v111 = some (.inl (2, 1, .inl f112)) ∧ ∀ v115 : Int32, v115 = (if f112 0 = 112 then 1 else 0) → (((v115 = 0) → (kj8 ((-1)))) ∧ ((¬ v115 = 0) → (kj8 5))))) ∧ (¬ v6 = 112 → ((v6 = 115 → (∃ (v117 : Nat) (x119 : Int32) (x120 : Int32) (f118 : Nat → Int32), σ5.1 r4 = some (.inr (11, [.ref v117, .int 0, .int x119, .int x120])) ∧ σ5.1 v117 = some (.inl (2, 1, .inl f118)) ∧ ∀ v121 : Int32, v121 = (if f118 0 = 115 then 1 else 0) → (((v121 = 0) → (kj8 ((-1)))) ∧ ((¬ v121 = 0) → (kj8 1))))) ∧ (¬ v6 = 115 → (kj8 ((-1)))))))))))))))))))))))))
theorem sg_X1_can : aSig yX1_can 1 := by decide +kernel
set_option maxHeartbeats 4000000 in
theorem ct_X1_can (l : Launch) (G : aG) (a : Nat) (p1 : Nat) (E : Nat → Prop) (σ : OS) (Q : Int32 → OS → Prop) (hw : wp_X1_can a p1 σ Q) (h0 : AH) (n0 u0 : Nat) (hB : OB h0 n0 E σ) : CT l yX1_can (ws_ yX1_can cX1_can 5 (some .boolean)) 4 G [.ref a, .ref p1] h0 n0 u0 σ.2.2.1 (10 * σ.2.2.1) (o_pi Q h0 n0 u0 E σ.2.2.1) := by
  refine CT.intro [some (.ref a), some (.ref p1), none, none, none] pn_RX1 rfl (Nat.le_of_ble_eq_true rfl) ?_
  intro p e s m args below meth c C hz hu
  have hs : s.heap.size = n0 ∧ slT s.heap = u0 := ⟨hz, hu⟩
  refine a_world (V1 := OW h0 n0 u0 E σ.2.2.1 σ) (OW.start hB) ?_
  unfold wp_X1_can at hw
  refine a_aload_1 (pc := 0) C dX1_can_0 ?_
  refine o_callVi (pc := 1) C hs [] (b := p1) (ci := 7) (st := []) (fun h n u hB => ct_X9_one l G p1 E _ _ hw.2 h n u hB) (by decide) (by decide) rfl hw.1 q98 q1533 q1534 q1535 (lw_meth q1536) sg_X9_one (Nat.le_of_ble_eq_true rfl) dX1_can_1 (fun v2 σ1 hw => ?_)
  refine a_istore_2 (pc := 4) C dX1_can_4 (by decide) rfl ?_
  refine a_aload_1 (pc := 5) C dX1_can_5 ?_
  refine o_callVr (pc := 6) C hs [] (b := p1) (ci := 7) (st := []) (fun h n u hB => ct_X9_sign l G p1 E _ _ hw.2 h n u hB) (by decide) (by decide) rfl hw.1 q98 q1537 q1538 q1539 (lw_meth q1540) sg_X9_sign (Nat.le_of_ble_eq_true rfl) dX1_can_6 (fun r4 σ3 hw => ?_)
  refine a_astore_3 (pc := 9) C dX1_can_9 (by decide) rfl ?_
  refine a_iconst (pc := 10) C dX1_can_10 ic_m1 ?_
  refine a_istore_4 (pc := 11) C dX1_can_11 (by decide) rfl ?_
  refine a_aload_3 (pc := 13) C dX1_can_13 ?_
  refine o_callVi (pc := 14) C hs [] (b := r4) (ci := 11) (st := []) (fun h n u hB => ct_J5_hashCode l G r4 E _ _ hw.2 h n u hB) (by decide) (by decide) rfl hw.1 q75 q1541 q747 q748 (lw_meth q749) sg_J5_hashCode (Nat.le_of_ble_eq_true rfl) dX1_can_14 (fun v6 σ5 hw => ?_)
  refine jn_use hw (fun kj8 ekj8 hw => ?_)
  have hkj8 : ∀ (x9 : Int32), kj8 x9 → AW G p l e (aRm 4 σ.2.2.1 (10 * σ.2.2.1)) s m args below meth c (a_A h0 n0) 5 (MQ below (a_Qc G (o_pi Q h0 n0 u0 E σ.2.2.1) (a_A h0 n0)) args s σ.2.2.1 (10 * σ.2.2.1) (a_A h0 n0)) (OW h0 n0 u0 E σ.2.2.1 σ5) 187 [some (.ref a), some (.ref p1), some (.int v2), some (.ref r4), some (.int x9)] [] := by
    intro x9 hw
    rw [ekj8] at hw
    refine a_iload_4 (pc := 187) C dX1_can_187 ?_
    by_cases c10_0 : x9 = 0
    · have hw := hw.1 c10_0
      refine a_tableIn (pc := 189) C 232 dX1_can_189 (by rw [c10_0]; decide) (by rw [c10_0]; decide) (by rw [c10_0]; rfl) (by decide) ?_
      refine a_aload_0 (pc := 232) C dX1_can_232 ?_
      obtain ⟨r11, fr11, hw⟩ := hw
      refine a_getf (pc := 233) C (ref := "MaltDrums") in_X1 (ci := 0) rfl 0 (by decide) q299 rfl (fun h n u hV => o_fld fr11 hV) dX1_can_233 ?_
      obtain ⟨w12, yw12, hw⟩ := hw
      refine a_getfN (pc := 236) C (ref := "MaltDrums$House") (v := .int (w12.1 11 1)) in_X2 (ci := 1) rfl 11 (by decide) q179 rfl (fun h n u hV => o_hfld yw12 (fun _ => rfl) hV) dX1_can_236 ?_
      refine a_bipush (pc := 239) C dX1_can_239 bc_12 ?_
      refine a_icmp_ge (pc := 241) C 248 dX1_can_241 (by decide) (fun c13 => ?_) (fun c13 => ?_)
      · have hw := hw.1 c13
        refine a_iconst (pc := 248) C dX1_can_248 ic_0 ?_
        refine a_goto (pc := 249) C 417 dX1_can_249 (by decide) ?_
        exact a_zret rfl C dX1_can_417 (fun h n u hV => ⟨⟨(_, _), rfl, hw, hV⟩, o_end hs hV⟩)
      · have hw := hw.2 c13
        refine a_iconst (pc := 244) C dX1_can_244 ic_1 ?_
        refine a_goto (pc := 245) C 417 dX1_can_245 (by decide) ?_
        exact a_zret rfl C dX1_can_417 (fun h n u hV => ⟨⟨(_, _), rfl, hw, hV⟩, o_end hs hV⟩)
    · have hw := hw.2 c10_0
      by_cases c10_1 : x9 = 1
      · have hw := hw.1 c10_1
        refine a_tableIn (pc := 189) C 252 dX1_can_189 (by rw [c10_1]; decide) (by rw [c10_1]; decide) (by rw [c10_1]; rfl) (by decide) ?_
        refine a_aload_0 (pc := 252) C dX1_can_252 ?_
        obtain ⟨r14, fr14, hw⟩ := hw
        refine a_getf (pc := 253) C (ref := "MaltDrums") in_X1 (ci := 0) rfl 0 (by decide) q299 rfl (fun h n u hV => o_fld fr14 hV) dX1_can_253 ?_
        refine a_iload_2 (pc := 256) C dX1_can_256 ?_
        obtain ⟨w15, yw15, hw⟩ := hw
        refine o_callHi (pc := 257) C hs [.int v2] (st := []) yw15 (fun h n u hV => ct_X2_isLot l G _ _ _ _ hw h n u hV) (by decide) (by decide) q66 q1311 q1312 q1313 (lw_meth q1314) sg_X2_isLot (Nat.le_of_ble_eq_true rfl) dX1_can_257 (fun v18 s16 hw => o_top (fun σ17 eσ17 => ?_))
        have hw := hw σ17 eσ17
        refine a_if_eq (pc := 260) C 278 dX1_can_260 (by decide) (fun c19 => ?_) (fun c19 => ?_)
        · have hw := hw.1 c19
          refine a_iconst (pc := 278) C dX1_can_278 ic_0 ?_
          refine a_goto (pc := 279) C 417 dX1_can_279 (by decide) ?_
          exact a_zret rfl C dX1_can_417 (fun h n u hV => ⟨⟨(_, _), rfl, hw, hV⟩, o_end hs hV⟩)
        · have hw := hw.2 c19
          refine a_aload_0 (pc := 263) C dX1_can_263 ?_
          obtain ⟨r20, fr20, hw⟩ := hw
          refine a_getf (pc := 264) C (ref := "MaltDrums") in_X1 (ci := 0) rfl 0 (by decide) q299 rfl (fun h n u hV => o_fld fr20 hV) dX1_can_264 ?_
          refine a_iload_2 (pc := 267) C dX1_can_267 ?_
          obtain ⟨w21, yw21, hw⟩ := hw
          refine o_callHi (pc := 268) C hs [.int v2] (st := []) yw21 (fun h n u hV => ct_X2_whyNotSteep l G _ _ _ _ hw h n u hV) (by decide) (by decide) q66 q1331 q1332 q1333 (lw_meth q1334) sg_X2_whyNotSteep (Nat.le_of_ble_eq_true rfl) dX1_can_268 (fun v24 s22 hw => o_top (fun σ23 eσ23 => ?_))
          have hw := hw σ23 eσ23
          refine a_if_ne (pc := 271) C 278 dX1_can_271 (by decide) (fun c25 => ?_) (fun c25 => ?_)
          · have hw := hw.1 c25
            refine a_iconst (pc := 278) C dX1_can_278 ic_0 ?_
            refine a_goto (pc := 279) C 417 dX1_can_279 (by decide) ?_
            exact a_zret rfl C dX1_can_417 (fun h n u hV => ⟨⟨(_, _), rfl, hw, hV⟩, o_end hs hV⟩)
          · have hw := hw.2 c25
            refine a_iconst (pc := 274) C dX1_can_274 ic_1 ?_
            refine a_goto (pc := 275) C 417 dX1_can_275 (by decide) ?_
            exact a_zret rfl C dX1_can_417 (fun h n u hV => ⟨⟨(_, _), rfl, hw, hV⟩, o_end hs hV⟩)
      · have hw := hw.2 c10_1
        by_cases c10_2 : x9 = 2
        · have hw := hw.1 c10_2
          refine a_tableIn (pc := 189) C 282 dX1_can_189 (by rw [c10_2]; decide) (by rw [c10_2]; decide) (by rw [c10_2]; rfl) (by decide) ?_
          refine a_aload_0 (pc := 282) C dX1_can_282 ?_
          obtain ⟨r26, fr26, hw⟩ := hw
          refine a_getf (pc := 283) C (ref := "MaltDrums") in_X1 (ci := 0) rfl 0 (by decide) q299 rfl (fun h n u hV => o_fld fr26 hV) dX1_can_283 ?_
          refine a_iload_2 (pc := 286) C dX1_can_286 ?_
          obtain ⟨w27, yw27, hw⟩ := hw
          refine o_callHi (pc := 287) C hs [.int v2] (st := []) yw27 (fun h n u hV => ct_X2_isLot l G _ _ _ _ hw h n u hV) (by decide) (by decide) q66 q1311 q1312 q1313 (lw_meth q1314) sg_X2_isLot (Nat.le_of_ble_eq_true rfl) dX1_can_287 (fun v30 s28 hw => o_top (fun σ29 eσ29 => ?_))
          have hw := hw σ29 eσ29
          refine a_if_eq (pc := 290) C 312 dX1_can_290 (by decide) (fun c31 => ?_) (fun c31 => ?_)
          · have hw := hw.1 c31
            refine a_iconst (pc := 312) C dX1_can_312 ic_0 ?_
            refine a_goto (pc := 313) C 417 dX1_can_313 (by decide) ?_
            exact a_zret rfl C dX1_can_417 (fun h n u hV => ⟨⟨(_, _), rfl, hw, hV⟩, o_end hs hV⟩)
          · have hw := hw.2 c31
            refine a_aload_0 (pc := 293) C dX1_can_293 ?_
            obtain ⟨r32, fr32, hw⟩ := hw
            refine a_getf (pc := 294) C (ref := "MaltDrums") in_X1 (ci := 0) rfl 0 (by decide) q299 rfl (fun h n u hV => o_fld fr32 hV) dX1_can_294 ?_
            refine a_iload_2 (pc := 297) C dX1_can_297 ?_
            refine a_aload_1 (pc := 298) C dX1_can_298 ?_
            refine o_callVi (pc := 299) C hs [] (b := p1) (ci := 7) (st := [.int v2, .ref r32]) (fun h n u hB => ct_X9_two l G p1 E _ _ hw.2 h n u hB) (by decide) (by decide) rfl hw.1 q98 q1550 q1551 q1552 (lw_meth q1553) sg_X9_two (Nat.le_of_ble_eq_true rfl) dX1_can_299 (fun v34 σ33 hw => ?_)
            obtain ⟨w35, yw35, hw⟩ := hw
            refine o_callHi (pc := 302) C hs [.int v2, .int v34] (st := []) yw35 (fun h n u hV => ct_X2_whyNotDrum l G _ _ _ _ _ hw h n u hV) (by decide) (by decide) q66 q1351 q1352 q1353 (lw_meth q1354) sg_X2_whyNotDrum (Nat.le_of_ble_eq_true rfl) dX1_can_302 (fun v38 s36 hw => o_top (fun σ37 eσ37 => ?_))
            have hw := hw σ37 eσ37
            refine a_if_ne (pc := 305) C 312 dX1_can_305 (by decide) (fun c39 => ?_) (fun c39 => ?_)
            · have hw := hw.1 c39
              refine a_iconst (pc := 312) C dX1_can_312 ic_0 ?_
              refine a_goto (pc := 313) C 417 dX1_can_313 (by decide) ?_
              exact a_zret rfl C dX1_can_417 (fun h n u hV => ⟨⟨(_, _), rfl, hw, hV⟩, o_end hs hV⟩)
            · have hw := hw.2 c39
              refine a_iconst (pc := 308) C dX1_can_308 ic_1 ?_
              refine a_goto (pc := 309) C 417 dX1_can_309 (by decide) ?_
              exact a_zret rfl C dX1_can_417 (fun h n u hV => ⟨⟨(_, _), rfl, hw, hV⟩, o_end hs hV⟩)
        · have hw := hw.2 c10_2
          by_cases c10_3 : x9 = 3
          · have hw := hw.1 c10_3
            refine a_tableIn (pc := 189) C 316 dX1_can_189 (by rw [c10_3]; decide) (by rw [c10_3]; decide) (by rw [c10_3]; rfl) (by decide) ?_
            refine a_aload_0 (pc := 316) C dX1_can_316 ?_
            obtain ⟨r40, fr40, hw⟩ := hw
            refine a_getf (pc := 317) C (ref := "MaltDrums") in_X1 (ci := 0) rfl 0 (by decide) q299 rfl (fun h n u hV => o_fld fr40 hV) dX1_can_317 ?_
            refine a_iload_2 (pc := 320) C dX1_can_320 ?_
            obtain ⟨w41, yw41, hw⟩ := hw
            refine o_callHi (pc := 321) C hs [.int v2] (st := []) yw41 (fun h n u hV => ct_X2_isLot l G _ _ _ _ hw h n u hV) (by decide) (by decide) q66 q1311 q1312 q1313 (lw_meth q1314) sg_X2_isLot (Nat.le_of_ble_eq_true rfl) dX1_can_321 (fun v44 s42 hw => o_top (fun σ43 eσ43 => ?_))
            have hw := hw σ43 eσ43
            refine a_if_eq (pc := 324) C 342 dX1_can_324 (by decide) (fun c45 => ?_) (fun c45 => ?_)
            · have hw := hw.1 c45
              refine a_iconst (pc := 342) C dX1_can_342 ic_0 ?_
              refine a_goto (pc := 343) C 417 dX1_can_343 (by decide) ?_
              exact a_zret rfl C dX1_can_417 (fun h n u hV => ⟨⟨(_, _), rfl, hw, hV⟩, o_end hs hV⟩)
            · have hw := hw.2 c45
              refine a_aload_0 (pc := 327) C dX1_can_327 ?_
              obtain ⟨r46, fr46, hw⟩ := hw
              refine a_getf (pc := 328) C (ref := "MaltDrums") in_X1 (ci := 0) rfl 0 (by decide) q299 rfl (fun h n u hV => o_fld fr46 hV) dX1_can_328 ?_
              refine a_iload_2 (pc := 331) C dX1_can_331 ?_
              obtain ⟨w47, yw47, hw⟩ := hw
              refine o_callHi (pc := 332) C hs [.int v2] (st := []) yw47 (fun h n u hV => ct_X2_canHeap l G _ _ _ _ hw h n u hV) (by decide) (by decide) q66 q1366 q1367 q1368 (lw_meth q1369) sg_X2_canHeap (Nat.le_of_ble_eq_true rfl) dX1_can_332 (fun v50 s48 hw => o_top (fun σ49 eσ49 => ?_))
              have hw := hw σ49 eσ49
              refine a_if_eq (pc := 335) C 342 dX1_can_335 (by decide) (fun c51 => ?_) (fun c51 => ?_)
              · have hw := hw.1 c51
                refine a_iconst (pc := 342) C dX1_can_342 ic_0 ?_
                refine a_goto (pc := 343) C 417 dX1_can_343 (by decide) ?_
                exact a_zret rfl C dX1_can_417 (fun h n u hV => ⟨⟨(_, _), rfl, hw, hV⟩, o_end hs hV⟩)
              · have hw := hw.2 c51
                refine a_iconst (pc := 338) C dX1_can_338 ic_1 ?_
                refine a_goto (pc := 339) C 417 dX1_can_339 (by decide) ?_
                exact a_zret rfl C dX1_can_417 (fun h n u hV => ⟨⟨(_, _), rfl, hw, hV⟩, o_end hs hV⟩)
          · have hw := hw.2 c10_3
            by_cases c10_4 : x9 = 4
            · have hw := hw.1 c10_4
              refine a_tableIn (pc := 189) C 346 dX1_can_189 (by rw [c10_4]; decide) (by rw [c10_4]; decide) (by rw [c10_4]; rfl) (by decide) ?_
              refine a_aload_0 (pc := 346) C dX1_can_346 ?_
              obtain ⟨r52, fr52, hw⟩ := hw
              refine a_getf (pc := 347) C (ref := "MaltDrums") in_X1 (ci := 0) rfl 0 (by decide) q299 rfl (fun h n u hV => o_fld fr52 hV) dX1_can_347 ?_
              refine a_iload_2 (pc := 350) C dX1_can_350 ?_
              obtain ⟨w53, yw53, hw⟩ := hw
              refine o_callHi (pc := 351) C hs [.int v2] (st := []) yw53 (fun h n u hV => ct_X2_isLot l G _ _ _ _ hw h n u hV) (by decide) (by decide) q66 q1311 q1312 q1313 (lw_meth q1314) sg_X2_isLot (Nat.le_of_ble_eq_true rfl) dX1_can_351 (fun v56 s54 hw => o_top (fun σ55 eσ55 => ?_))
              have hw := hw σ55 eσ55
              refine a_if_eq (pc := 354) C 372 dX1_can_354 (by decide) (fun c57 => ?_) (fun c57 => ?_)
              · have hw := hw.1 c57
                refine a_iconst (pc := 372) C dX1_can_372 ic_0 ?_
                refine a_goto (pc := 373) C 417 dX1_can_373 (by decide) ?_
                exact a_zret rfl C dX1_can_417 (fun h n u hV => ⟨⟨(_, _), rfl, hw, hV⟩, o_end hs hV⟩)
              · have hw := hw.2 c57
                refine a_aload_0 (pc := 357) C dX1_can_357 ?_
                obtain ⟨r58, fr58, hw⟩ := hw
                refine a_getf (pc := 358) C (ref := "MaltDrums") in_X1 (ci := 0) rfl 0 (by decide) q299 rfl (fun h n u hV => o_fld fr58 hV) dX1_can_358 ?_
                refine a_iload_2 (pc := 361) C dX1_can_361 ?_
                obtain ⟨w59, yw59, hw⟩ := hw
                refine o_callHi (pc := 362) C hs [.int v2] (st := []) yw59 (fun h n u hV => ct_X2_whyNotLoad l G _ _ _ _ hw h n u hV) (by decide) (by decide) q66 q1381 q1382 q1383 (lw_meth q1384) sg_X2_whyNotLoad (Nat.le_of_ble_eq_true rfl) dX1_can_362 (fun v62 s60 hw => o_top (fun σ61 eσ61 => ?_))
                have hw := hw σ61 eσ61
                refine a_if_ne (pc := 365) C 372 dX1_can_365 (by decide) (fun c63 => ?_) (fun c63 => ?_)
                · have hw := hw.1 c63
                  refine a_iconst (pc := 372) C dX1_can_372 ic_0 ?_
                  refine a_goto (pc := 373) C 417 dX1_can_373 (by decide) ?_
                  exact a_zret rfl C dX1_can_417 (fun h n u hV => ⟨⟨(_, _), rfl, hw, hV⟩, o_end hs hV⟩)
                · have hw := hw.2 c63
                  refine a_iconst (pc := 368) C dX1_can_368 ic_1 ?_
                  refine a_goto (pc := 369) C 417 dX1_can_369 (by decide) ?_
                  exact a_zret rfl C dX1_can_417 (fun h n u hV => ⟨⟨(_, _), rfl, hw, hV⟩, o_end hs hV⟩)
            · have hw := hw.2 c10_4
              by_cases c10_5 : x9 = 5
              · have hw := hw.1 c10_5
                refine a_tableIn (pc := 189) C 376 dX1_can_189 (by rw [c10_5]; decide) (by rw [c10_5]; decide) (by rw [c10_5]; rfl) (by decide) ?_
                refine a_aload_0 (pc := 376) C dX1_can_376 ?_
                obtain ⟨r64, fr64, hw⟩ := hw
                refine a_getf (pc := 377) C (ref := "MaltDrums") in_X1 (ci := 0) rfl 0 (by decide) q299 rfl (fun h n u hV => o_fld fr64 hV) dX1_can_377 ?_
                refine a_iload_2 (pc := 380) C dX1_can_380 ?_
                obtain ⟨w65, yw65, hw⟩ := hw
                refine o_callHi (pc := 381) C hs [.int v2] (st := []) yw65 (fun h n u hV => ct_X2_isLot l G _ _ _ _ hw h n u hV) (by decide) (by decide) q66 q1311 q1312 q1313 (lw_meth q1314) sg_X2_isLot (Nat.le_of_ble_eq_true rfl) dX1_can_381 (fun v68 s66 hw => o_top (fun σ67 eσ67 => ?_))
                have hw := hw σ67 eσ67
                refine a_if_eq (pc := 384) C 402 dX1_can_384 (by decide) (fun c69 => ?_) (fun c69 => ?_)
                · have hw := hw.1 c69
                  refine a_iconst (pc := 402) C dX1_can_402 ic_0 ?_
                  refine a_goto (pc := 403) C 417 dX1_can_403 (by decide) ?_
                  exact a_zret rfl C dX1_can_417 (fun h n u hV => ⟨⟨(_, _), rfl, hw, hV⟩, o_end hs hV⟩)
                · have hw := hw.2 c69
                  refine a_aload_0 (pc := 387) C dX1_can_387 ?_
                  obtain ⟨r70, fr70, hw⟩ := hw
                  refine a_getf (pc := 388) C (ref := "MaltDrums") in_X1 (ci := 0) rfl 0 (by decide) q299 rfl (fun h n u hV => o_fld fr70 hV) dX1_can_388 ?_
                  refine a_iload_2 (pc := 391) C dX1_can_391 ?_
                  obtain ⟨w71, yw71, hw⟩ := hw
                  refine o_callHi (pc := 392) C hs [.int v2] (st := []) yw71 (fun h n u hV => ct_X2_whyNotSpray l G _ _ _ _ hw h n u hV) (by decide) (by decide) q66 q1412 q1413 q1414 (lw_meth q1415) sg_X2_whyNotSpray (Nat.le_of_ble_eq_true rfl) dX1_can_392 (fun v74 s72 hw => o_top (fun σ73 eσ73 => ?_))
                  have hw := hw σ73 eσ73
                  refine a_if_ne (pc := 395) C 402 dX1_can_395 (by decide) (fun c75 => ?_) (fun c75 => ?_)
                  · have hw := hw.1 c75
                    refine a_iconst (pc := 402) C dX1_can_402 ic_0 ?_
                    refine a_goto (pc := 403) C 417 dX1_can_403 (by decide) ?_
                    exact a_zret rfl C dX1_can_417 (fun h n u hV => ⟨⟨(_, _), rfl, hw, hV⟩, o_end hs hV⟩)
                  · have hw := hw.2 c75
                    refine a_iconst (pc := 398) C dX1_can_398 ic_1 ?_
                    refine a_goto (pc := 399) C 417 dX1_can_399 (by decide) ?_
                    exact a_zret rfl C dX1_can_417 (fun h n u hV => ⟨⟨(_, _), rfl, hw, hV⟩, o_end hs hV⟩)
              · have hw := hw.2 c10_5
                by_cases c10_6 : x9 = 6
                · have hw := hw.1 c10_6
                  refine a_tableIn (pc := 189) C 406 dX1_can_189 (by rw [c10_6]; decide) (by rw [c10_6]; decide) (by rw [c10_6]; rfl) (by decide) ?_
                  refine a_aload_0 (pc := 406) C dX1_can_406 ?_
                  obtain ⟨r76, fr76, hw⟩ := hw
                  refine a_getf (pc := 407) C (ref := "MaltDrums") in_X1 (ci := 0) rfl 0 (by decide) q299 rfl (fun h n u hV => o_fld fr76 hV) dX1_can_407 ?_
                  obtain ⟨w77, yw77, hw⟩ := hw
                  refine o_callHi (pc := 410) C hs [] (st := []) yw77 (fun h n u hV => ct_X2_canLight l G _ _ _ hw h n u hV) (by decide) (by decide) q66 q1397 q1398 q1399 (lw_meth q1400) sg_X2_canLight (Nat.le_of_ble_eq_true rfl) dX1_can_410 (fun v80 s78 hw => o_top (fun σ79 eσ79 => ?_))
                  have hw := hw σ79 eσ79
                  refine a_goto (pc := 413) C 417 dX1_can_413 (by decide) ?_
                  have hz := hw.1
                  have hw := hw.2
                  exact a_zret (narrow_bool hz) C dX1_can_417 (fun h n u hV => ⟨⟨(_, _), rfl, hw, hV⟩, o_end hs hV⟩)
                · have hw := hw.2 c10_6
                  refine a_tableOut (pc := 189) C 416 dX1_can_189 (by have := lv_neT c10_0 (a := 0) (by decide); have := lv_neT c10_1 (a := 1) (by decide); have := lv_neT c10_2 (a := 2) (by decide); have := lv_neT c10_3 (a := 3) (by decide); have := lv_neT c10_4 (a := 4) (by decide); have := lv_neT c10_5 (a := 5) (by decide); have := lv_neT c10_6 (a := 6) (by decide); omega) (by decide) ?_
                  refine a_iconst (pc := 416) C dX1_can_416 ic_1 ?_
                  exact a_zret rfl C dX1_can_417 (fun h n u hV => ⟨⟨(_, _), rfl, hw, hV⟩, o_end hs hV⟩)
  by_cases c7_0 : v6 = 43
  · have hw := hw.1 c7_0
    refine a_lookup (pc := 17) C 84 dX1_can_17 (by decide) (by rw [c7_0]; try decide) (by decide) ?_
    refine a_aload_3 (pc := 84) C dX1_can_84 ?_
    refine a_ldcS (pc := 85) C ((C.SC.2.2.2.2.2.2 12 _ rfl).1) dX1_can_85 ?_
    obtain ⟨v81, x83, x84, f82, y1, y2, hw⟩ := hw
    refine o_strEq (pc := 87) C hs 12 (st := []) (ch := 43) rfl rfl y1 y2 (by decide) q1543 (Nat.le_of_ble_eq_true rfl) dX1_can_87 (fun v85 ev85 => ?_)
    have hw := hw v85 ev85
    refine a_if_eq (pc := 90) C 187 dX1_can_90 (by decide) (fun c86 => ?_) (fun c86 => ?_)
    · have hw := hw.1 c86
      exact hkj8 _ hw
    · have hw := hw.2 c86
      refine a_iconst (pc := 93) C dX1_can_93 ic_0 ?_
      refine a_istore_4 (pc := 94) C dX1_can_94 (by decide) rfl ?_
      refine a_goto (pc := 96) C 187 dX1_can_96 (by decide) ?_
      exact hkj8 _ hw
  · have hw := hw.2 c7_0
    by_cases c7_1 : v6 = 100
    · have hw := hw.1 c7_1
      refine a_lookup (pc := 17) C 114 dX1_can_17 (by decide) (by rw [c7_1]; try decide) (by decide) ?_
      refine a_aload_3 (pc := 114) C dX1_can_114 ?_
      refine a_ldcS (pc := 115) C ((C.SC.2.2.2.2.2.2 14 _ rfl).1) dX1_can_115 ?_
      obtain ⟨v87, x89, x90, f88, y1, y2, hw⟩ := hw
      refine o_strEq (pc := 117) C hs 14 (st := []) (ch := 100) rfl rfl y1 y2 (by decide) q1543 (Nat.le_of_ble_eq_true rfl) dX1_can_117 (fun v91 ev91 => ?_)
      have hw := hw v91 ev91
      refine a_if_eq (pc := 120) C 187 dX1_can_120 (by decide) (fun c92 => ?_) (fun c92 => ?_)
      · have hw := hw.1 c92
        exact hkj8 _ hw
      · have hw := hw.2 c92
        refine a_iconst (pc := 123) C dX1_can_123 ic_2 ?_
        refine a_istore_4 (pc := 124) C dX1_can_124 (by decide) rfl ?_
        refine a_goto (pc := 126) C 187 dX1_can_126 (by decide) ?_
        exact hkj8 _ hw
    · have hw := hw.2 c7_1
      by_cases c7_2 : v6 = 104
      · have hw := hw.1 c7_2
        refine a_lookup (pc := 17) C 129 dX1_can_17 (by decide) (by rw [c7_2]; try decide) (by decide) ?_
        refine a_aload_3 (pc := 129) C dX1_can_129 ?_
        refine a_ldcS (pc := 130) C ((C.SC.2.2.2.2.2.2 15 _ rfl).1) dX1_can_130 ?_
        obtain ⟨v93, x95, x96, f94, y1, y2, hw⟩ := hw
        refine o_strEq (pc := 132) C hs 15 (st := []) (ch := 104) rfl rfl y1 y2 (by decide) q1543 (Nat.le_of_ble_eq_true rfl) dX1_can_132 (fun v97 ev97 => ?_)
        have hw := hw v97 ev97
        refine a_if_eq (pc := 135) C 187 dX1_can_135 (by decide) (fun c98 => ?_) (fun c98 => ?_)
        · have hw := hw.1 c98
          exact hkj8 _ hw
        · have hw := hw.2 c98
          refine a_iconst (pc := 138) C dX1_can_138 ic_3 ?_
          refine a_istore_4 (pc := 139) C dX1_can_139 (by decide) rfl ?_
          refine a_goto (pc := 141) C 187 dX1_can_141 (by decide) ?_
          exact hkj8 _ hw
      · have hw := hw.2 c7_2
        by_cases c7_3 : v6 = 107
        · have hw := hw.1 c7_3
          refine a_lookup (pc := 17) C 144 dX1_can_17 (by decide) (by rw [c7_3]; try decide) (by decide) ?_
          refine a_aload_3 (pc := 144) C dX1_can_144 ?_
          refine a_ldcS (pc := 145) C ((C.SC.2.2.2.2.2.2 16 _ rfl).1) dX1_can_145 ?_
          obtain ⟨v99, x101, x102, f100, y1, y2, hw⟩ := hw
          refine o_strEq (pc := 147) C hs 16 (st := []) (ch := 107) rfl rfl y1 y2 (by decide) q1543 (Nat.le_of_ble_eq_true rfl) dX1_can_147 (fun v103 ev103 => ?_)
          have hw := hw v103 ev103
          refine a_if_eq (pc := 150) C 187 dX1_can_150 (by decide) (fun c104 => ?_) (fun c104 => ?_)
          · have hw := hw.1 c104
            exact hkj8 _ hw
          · have hw := hw.2 c104
            refine a_iconst (pc := 153) C dX1_can_153 ic_4 ?_
            refine a_istore_4 (pc := 154) C dX1_can_154 (by decide) rfl ?_
            refine a_goto (pc := 156) C 187 dX1_can_156 (by decide) ?_
            exact hkj8 _ hw
        · have hw := hw.2 c7_3
          by_cases c7_4 : v6 = 108
          · have hw := hw.1 c7_4
            refine a_lookup (pc := 17) C 174 dX1_can_17 (by decide) (by rw [c7_4]; try decide) (by decide) ?_
            refine a_aload_3 (pc := 174) C dX1_can_174 ?_
            refine a_ldcS (pc := 175) C ((C.SC.2.2.2.2.2.2 18 _ rfl).1) dX1_can_175 ?_
            obtain ⟨v105, x107, x108, f106, y1, y2, hw⟩ := hw
            refine o_strEq (pc := 177) C hs 18 (st := []) (ch := 108) rfl rfl y1 y2 (by decide) q1543 (Nat.le_of_ble_eq_true rfl) dX1_can_177 (fun v109 ev109 => ?_)
            have hw := hw v109 ev109
            refine a_if_eq (pc := 180) C 187 dX1_can_180 (by decide) (fun c110 => ?_) (fun c110 => ?_)
            · have hw := hw.1 c110
              exact hkj8 _ hw
            · have hw := hw.2 c110
              refine a_bipush (pc := 183) C dX1_can_183 bc_6 ?_
              refine a_istore_4 (pc := 185) C dX1_can_185 (by decide) rfl ?_
              exact hkj8 _ hw
          · have hw := hw.2 c7_4
            by_cases c7_5 : v6 = 112
            · have hw := hw.1 c7_5
              refine a_lookup (pc := 17) C 159 dX1_can_17 (by decide) (by rw [c7_5]; try decide) (by decide) ?_
              refine a_aload_3 (pc := 159) C dX1_can_159 ?_
              refine a_ldcS (pc := 160) C ((C.SC.2.2.2.2.2.2 17 _ rfl).1) dX1_can_160 ?_
              obtain ⟨v111, x113, x114, f112, y1, y2, hw⟩ := hw
              refine o_strEq (pc := 162) C hs 17 (st := []) (ch := 112) rfl rfl y1 y2 (by decide) q1543 (Nat.le_of_ble_eq_true rfl) dX1_can_162 (fun v115 ev115 => ?_)
              have hw := hw v115 ev115
              refine a_if_eq (pc := 165) C 187 dX1_can_165 (by decide) (fun c116 => ?_) (fun c116 => ?_)
              · have hw := hw.1 c116
                exact hkj8 _ hw
              · have hw := hw.2 c116
                refine a_iconst (pc := 168) C dX1_can_168 ic_5 ?_
                refine a_istore_4 (pc := 169) C dX1_can_169 (by decide) rfl ?_
                refine a_goto (pc := 171) C 187 dX1_can_171 (by decide) ?_
                exact hkj8 _ hw
            · have hw := hw.2 c7_5
              by_cases c7_6 : v6 = 115
              · have hw := hw.1 c7_6
                refine a_lookup (pc := 17) C 99 dX1_can_17 (by decide) (by rw [c7_6]; try decide) (by decide) ?_
                refine a_aload_3 (pc := 99) C dX1_can_99 ?_
                refine a_ldcS (pc := 100) C ((C.SC.2.2.2.2.2.2 13 _ rfl).1) dX1_can_100 ?_
                obtain ⟨v117, x119, x120, f118, y1, y2, hw⟩ := hw
                refine o_strEq (pc := 102) C hs 13 (st := []) (ch := 115) rfl rfl y1 y2 (by decide) q1543 (Nat.le_of_ble_eq_true rfl) dX1_can_102 (fun v121 ev121 => ?_)
                have hw := hw v121 ev121
                refine a_if_eq (pc := 105) C 187 dX1_can_105 (by decide) (fun c122 => ?_) (fun c122 => ?_)
                · have hw := hw.1 c122
                  exact hkj8 _ hw
                · have hw := hw.2 c122
                  refine a_iconst (pc := 108) C dX1_can_108 ic_1 ?_
                  refine a_istore_4 (pc := 109) C dX1_can_109 (by decide) rfl ?_
                  refine a_goto (pc := 111) C 187 dX1_can_111 (by decide) ?_
                  exact hkj8 _ hw
              · have hw := hw.2 c7_6
                refine a_lookup (pc := 17) (off := 170) C 187 dX1_can_17 (by decide) (by have y0 := lv_neT c7_0 (a := 43) (by decide); have y1 := lv_neT c7_1 (a := 100) (by decide); have y2 := lv_neT c7_2 (a := 104) (by decide); have y3 := lv_neT c7_3 (a := 107) (by decide); have y4 := lv_neT c7_4 (a := 108) (by decide); have y5 := lv_neT c7_5 (a := 112) (by decide); have y6 := lv_neT c7_6 (a := 115) (by decide); simp only [Op.lookupswitch.offset_cons, Op.lookupswitch.offset_nil]; repeat rw [if_neg (by omega)]) (by decide) ?_
                exact hkj8 _ hw
def wp_X1_does (a : Nat) (p1 : Nat) (σ : OS) (Q : OS → Prop) : Prop := (oC σ p1 7 ∧ wp_X9_one p1 σ (fun v2 σ1 => (oC σ1 p1 7 ∧ wp_X9_sign p1 σ1 (fun r4 σ3 => (oC σ3 r4 11 ∧ wp_J5_hashCode r4 σ3 (fun v6 σ5 => (jn (fun (x9 : Int32) => ((x9 = 0 → (∃ r11 : Nat, oF σ5 a 0 0 (.ref r11) ∧ (∃ w12 : MS × List Int32, σ5.2.1 r11 = some w12 ∧ wp_X2_add v2 (w12.1, w12.2, σ5.2.2.1) (fun v15 s13 => ∀ σ14 : OS, σ14 = oHc σ5 r11 s13 → (Q σ14))))) ∧ (¬ x9 = 0 → ((x9 = 1 → (∃ r16 : Nat, oF σ5 a 0 0 (.ref r16) ∧ (∃ w17 : MS × List Int32, σ5.2.1 r16 = some w17 ∧ wp_X2_steep v2 (w17.1, w17.2, σ5.2.2.1) (fun v20 s18 => ∀ σ19 : OS, σ19 = oHc σ5 r16 s18 → (Q σ19))))) ∧ (¬ x9 = 1 → ((x9 = 2 → (∃ r21 : Nat, oF σ5 a 0 0 (.ref r21) ∧ (oC σ5 p1 7 ∧ wp_X9_two p1 σ5 (fun v23 σ22 => (∃ w24 : MS × List Int32, σ22.2.1 r21 = some w24 ∧ wp_X2_toDrum v2 v23 (w24.1, w24.2, σ22.2.2.1) (fun v27 s25 => ∀ σ26 : OS, σ26 = oHc σ22 r21 s25 → (Q σ26))))))) ∧ (¬ x9 = 2 → ((x9 = 3 → (∃ r28 : Nat, oF σ5 a 0 0 (.ref r28) ∧ (∃ w29 : MS × List Int32, σ5.2.1 r28 = some w29 ∧ wp_X2_toHeap v2 (w29.1, w29.2, σ5.2.2.1) (fun v32 s30 => ∀ σ31 : OS, σ31 = oHc σ5 r28 s30 → (Q σ31))))) ∧ (¬ x9 = 3 → ((x9 = 4 → (∃ r33 : Nat, oF σ5 a 0 0 (.ref r33) ∧ (∃ w34 : MS × List Int32, σ5.2.1 r33 = some w34 ∧ wp_X2_load v2 (w34.1, w34.2, σ5.2.2.1) (fun v37 s35 => ∀ σ36 : OS, σ36 = oHc σ5 r33 s35 → (Q σ36))))) ∧ (¬ x9 = 4 → ((x9 = 5 → (∃ r38 : Nat, oF σ5 a 0 0 (.ref r38) ∧ (∃ w39 : MS × List Int32, σ5.2.1 r38 = some w39 ∧ wp_X2_spray v2 (w39.1, w39.2, σ5.2.2.1) (fun v42 s40 => ∀ σ41 : OS, σ41 = oHc σ5 r38 s40 → (Q σ41))))) ∧ (¬ x9 = 5 → ((x9 = 6 → (∃ r43 : Nat, oF σ5 a 0 0 (.ref r43) ∧ (∃ w44 : MS × List Int32, σ5.2.1 r43 = some w44 ∧ wp_X2_light (w44.1, w44.2, σ5.2.2.1) (fun v47 s45 => ∀ σ46 : OS, σ46 = oHc σ5 r43 s45 → (Q σ46))))) ∧ (¬ x9 = 6 → ((x9 = 7 → (∃ r48 : Nat, oF σ5 a 0 0 (.ref r48) ∧ (∃ w49 : MS × List Int32, σ5.2.1 r48 = some w49 ∧ (∃ w50 : MS × List Int32, σ5.2.1 r48 = some w50 ∧ vp_in v2 4 ∧ (oC σ5 p1 7 ∧ wp_X9_two p1 σ5 (fun v52 σ51 => (∃ w54 : MS × List Int32, σ51.2.1 r48 = some w54 ∧ (v2.toNatClampNeg) < 4 ∧ ∀ σ53 : OS, σ53 = (oHc σ51 r48 (hU (w54.1, w54.2, σ51.2.2.1) (7 + 1) (v2.toNatClampNeg) v52)) → (Q σ53)))))))) ∧ (¬ x9 = 7 → ((x9 = 8 → (∃ r55 : Nat, oF σ5 a 0 0 (.ref r55) ∧ (∃ w56 : MS × List Int32, σ5.2.1 r55 = some w56 ∧ (∃ w57 : MS × List Int32, σ5.2.1 r55 = some w57 ∧ vp_in v2 4 ∧ (oC σ5 p1 7 ∧ wp_X9_two p1 σ5 (fun v59 σ58 => (∃ w61 : MS × List Int32, σ58.2.1 r55 = some w61 ∧ (v2.toNatClampNeg) < 4 ∧ ∀ σ60 : OS, σ60 = (oHc σ58 r55 (hU (w61.1, w61.2, σ58.2.2.1) (7 + 2) (v2.toNatClampNeg) v59)) → (Q σ60)))))))) ∧ (¬ x9 = 8 → ((x9 = 9 → (∃ r62 : Nat, oF σ5 a 0 0 (.ref r62) ∧ (∃ w63 : MS × List Int32, σ5.2.1 r62 = some w63 ∧ (∃ w64 : MS × List Int32, σ5.2.1 r62 = some w64 ∧ vp_in v2 4 ∧ (oC σ5 p1 7 ∧ wp_X9_two p1 σ5 (fun v66 σ65 => (∃ w68 : MS × List Int32, σ65.2.1 r62 = some w68 ∧ (v2.toNatClampNeg) < 4 ∧ ∀ σ67 : OS, σ67 = (oHc σ65 r62 (hU (w68.1, w68.2, σ65.2.2.1) (7 + 3) (v2.toNatClampNeg) v66)) → (Q σ67)))))))) ∧ (¬ x9 = 9 → (∃ r69 : Nat, oF σ5 a 0 0 (.ref r69) ∧ (∃ w70 : MS × List Int32, σ5.2.1 r69 = some w70 ∧ wp_X2_pass v2 (w70.1, w70.2, σ5.2.2.1) (fun v73 s71 => ∀ σ72 : OS, σ72 = oHc σ5 r69 s71 → (Q σ72))))))))))))))))))))))))) (fun kj8 => ((v6 = 43 → (∃ (v74 : Nat) (x76 : Int32) (x77 : Int32) (f75 : Nat → Int32), σ5.1 r4 = some (.inr (11, [.ref v74, .int 0, .int x76, .int x77])) ∧ σ5.1 v74 = some (.inl (2, 1, .inl f75)) ∧ ∀ v78 : Int32, v78 = (if f75 0 = 43 then 1 else 0) → (((v78 = 0) → (kj8 ((-1)))) ∧ ((¬ v78 = 0) → (kj8 0))))) ∧ (¬ v6 = 43 → ((v6 = 97 → (∃ (v80 : Nat) (x82 : Int32) (x83 : Int32) (f81 : Nat → Int32), σ5.1 r4 = some (.inr (11, [.ref v80, .int 0, .int x82, .int x83])) ∧ σ5.1 v80 = some (.inl (2, 1, .inl f81)) ∧ ∀ v84 : Int32, v84 = (if f81 0 = 97 then 1 else 0) → (((v84 = 0) → (kj8 ((-1)))) ∧ ((¬ v84 = 0) → (kj8 7))))) ∧ (¬ v6 = 97 → ((v6 = 100 → (∃ (v86 : Nat) (x88 : Int32) (x89 : Int32) (f87 : Nat → Int32), σ5.1 r4 = some (.inr (11, [.ref v86, .int 0, .int x88, .int x89])) ∧ σ5.1 v86 = some (.inl (2, 1, .inl f87)) ∧ ∀ v90 : Int32, v90 = (if f87 0 = 100 then 1 else 0) → (((v90 = 0) → (kj8 ((-1)))) ∧ ((¬ v90 = 0) → (kj8 2))))) ∧ (¬ v6 = 100 → ((v6 = 104 → (∃ (v92 : Nat) (x94 : Int32) (x95 : Int32) (f93 : Nat → Int32), σ5.1 r4 = some (.inr (11, [.ref v92, .int 0, .int x94, .int x95])) ∧ σ5.1 v92 = some (.inl (2, 1, .inl f93)) ∧ ∀ v96 : Int32, v96 = (if f93 0 = 104 then 1 else 0) → (((v96 = 0) → (kj8 ((-1)))) ∧ ((¬ v96 = 0) → (kj8 3))))) ∧ (¬ v6 = 104 → ((v6 = 107 → (∃ (v98 : Nat) (x100 : Int32) (x101 : Int32) (f99 : Nat → Int32), σ5.1 r4 = some (.inr (11, [.ref v98, .int 0, .int x100, .int x101])) ∧ σ5.1 v98 = some (.inl (2, 1, .inl f99)) ∧ ∀ v102 : Int32, v102 = (if f99 0 = 107 then 1 else 0) → (((v102 = 0) → (kj8 ((-1)))) ∧ ((¬ v102 = 0) → (kj8 4))))) ∧ (¬ v6 = 107 → ((v6 = 108 → (∃ (v104 : Nat) (x106 : Int32) (x107 : Int32) (f105 : Nat → Int32), σ5.1 r4 = some (.inr (11, [.ref v104, .int 0, .int x106, .int x107])) ∧ σ5.1 v104 = some (.inl (2, 1, .inl f105)) ∧ ∀ v108 : Int32, v108 = (if f105 0 = 108 then 1 else 0) → (((v108 = 0) → (kj8 ((-1)))) ∧ ((¬ v108 = 0) → (kj8 6))))) ∧ (¬ v6 = 108 → ((v6 = 112 → (∃ (v110 : Nat) (x112 : Int32) (x113 : Int32) (f111 : Nat → Int32), σ5.1 r4 = some (.inr (11, [.ref v110, .int 0, .int x112, .int x113])) ∧ σ5.1 v110 = some (.inl (2, 1, .inl f111)) ∧ ∀ v114 : Int32, v114 = (if f111 0 = 112 then 1 else 0) → (((v114 = 0) → (kj8 ((-1)))) ∧ ((¬ v114 = 0) → (kj8 5))))) ∧ (¬ v6 = 112 → ((v6 = 115 → (∃ (v116 : Nat) (x118 : Int32) (x119 : Int32) (f117 : Nat → Int32), σ5.1 r4 = some (.inr (11, [.ref v116, .int 0, .int x118, .int x119])) ∧ σ5.1 v116 = some (.inl (2, 1, .inl f117)) ∧ ∀ v120 : Int32, v120 = (if f117 0 = 115 then 1 else 0) → (((v120 = 0) → (kj8 ((-1)))) ∧ ((¬ v120 = 0) → (kj8 1))))) ∧ (¬ v6 = 115 → ((v6 = 116 → (∃ (v122 : Nat) (x124 : Int32) (x125 : Int32) (f123 : Nat → Int32), σ5.1 r4 = some (.inr (11, [.ref v122, .int 0, .int x124, .int x125])) ∧ σ5.1 v122 = some (.inl (2, 1, .inl f123)) ∧ ∀ v126 : Int32, v126 = (if f123 0 = 116 then 1 else 0) → (((v126 = 0) → (kj8 ((-1)))) ∧ ((¬ v126 = 0) → (kj8 9))))) ∧ (¬ v6 = 116 → ((v6 = 119 → (∃ (v128 : Nat) (x130 : Int32) (x131 : Int32) (f129 : Nat → Int32), σ5.1 r4 = some (.inr (11, [.ref v128, .int 0, .int x130, .int x131])) ∧ σ5.1 v128 = some (.inl (2, 1, .inl f129)) ∧ ∀ v132 : Int32, v132 = (if f129 0 = 119 then 1 else 0) → (((v132 = 0) → (kj8 ((-1)))) ∧ ((¬ v132 = 0) → (kj8 8))))) ∧ (¬ v6 = 119 → (kj8 ((-1)))))))))))))))))))))))))))))))
theorem sg_X1_does : aSig yX1_does 1 := by decide +kernel
set_option maxHeartbeats 4000000 in
theorem ct_X1_does (l : Launch) (G : aG) (a : Nat) (p1 : Nat) (E : Nat → Prop) (σ : OS) (Q : OS → Prop) (hw : wp_X1_does a p1 σ Q) (h0 : AH) (n0 u0 : Nat) (hB : OB h0 n0 E σ) : CT l yX1_does (ws_ yX1_does cX1_does 5 none) 21 G [.ref a, .ref p1] h0 n0 u0 σ.2.2.1 (10 * σ.2.2.1) (o_pv Q h0 n0 u0 E σ.2.2.1) := by
  refine CT.intro [some (.ref a), some (.ref p1), none, none, none] pn_RX1 rfl (Nat.le_of_ble_eq_true rfl) ?_
  intro p e s m args below meth c C hz hu
  have hs : s.heap.size = n0 ∧ slT s.heap = u0 := ⟨hz, hu⟩
  refine a_world (V1 := OW h0 n0 u0 E σ.2.2.1 σ) (OW.start hB) ?_
  unfold wp_X1_does at hw
  refine a_aload_1 (pc := 0) C dX1_does_0 ?_
  refine o_callVi (pc := 1) C hs [] (b := p1) (ci := 7) (st := []) (fun h n u hB => ct_X9_one l G p1 E _ _ hw.2 h n u hB) (by decide) (by decide) rfl hw.1 q98 q1533 q1534 q1535 (lw_meth q1536) sg_X9_one (Nat.le_of_ble_eq_true rfl) dX1_does_1 (fun v2 σ1 hw => ?_)
  refine a_istore_2 (pc := 4) C dX1_does_4 (by decide) rfl ?_
  refine a_aload_1 (pc := 5) C dX1_does_5 ?_
  refine o_callVr (pc := 6) C hs [] (b := p1) (ci := 7) (st := []) (fun h n u hB => ct_X9_sign l G p1 E _ _ hw.2 h n u hB) (by decide) (by decide) rfl hw.1 q98 q1537 q1538 q1539 (lw_meth q1540) sg_X9_sign (Nat.le_of_ble_eq_true rfl) dX1_does_6 (fun r4 σ3 hw => ?_)
  refine a_astore_3 (pc := 9) C dX1_does_9 (by decide) rfl ?_
  refine a_iconst (pc := 10) C dX1_does_10 ic_m1 ?_
  refine a_istore_4 (pc := 11) C dX1_does_11 (by decide) rfl ?_
  refine a_aload_3 (pc := 13) C dX1_does_13 ?_
  refine o_callVi (pc := 14) C hs [] (b := r4) (ci := 11) (st := []) (fun h n u hB => ct_J5_hashCode l G r4 E _ _ hw.2 h n u hB) (by decide) (by decide) rfl hw.1 q75 q1541 q747 q748 (lw_meth q749) sg_J5_hashCode (Nat.le_of_ble_eq_true rfl) dX1_does_14 (fun v6 σ5 hw => ?_)
  refine jn_use hw (fun kj8 ekj8 hw => ?_)
  have hkj8 : ∀ (x9 : Int32), kj8 x9 → AW G p l e (aRm 21 σ.2.2.1 (10 * σ.2.2.1)) s m args below meth c (a_A h0 n0) 5 (MQ below (a_Qc G (o_pv Q h0 n0 u0 E σ.2.2.1) (a_A h0 n0)) args s σ.2.2.1 (10 * σ.2.2.1) (a_A h0 n0)) (OW h0 n0 u0 E σ.2.2.1 σ5) 259 [some (.ref a), some (.ref p1), some (.int v2), some (.ref r4), some (.int x9)] [] := by
    intro x9 hw
    rw [ekj8] at hw
    refine a_iload_4 (pc := 259) C dX1_does_259 ?_
    by_cases c10_0 : x9 = 0
    · have hw := hw.1 c10_0
      refine a_tableIn (pc := 261) C 316 dX1_does_261 (by rw [c10_0]; decide) (by rw [c10_0]; decide) (by rw [c10_0]; rfl) (by decide) ?_
      refine a_aload_0 (pc := 316) C dX1_does_316 ?_
      obtain ⟨r11, fr11, hw⟩ := hw
      refine a_getf (pc := 317) C (ref := "MaltDrums") in_X1 (ci := 0) rfl 0 (by decide) q299 rfl (fun h n u hV => o_fld fr11 hV) dX1_does_317 ?_
      refine a_iload_2 (pc := 320) C dX1_does_320 ?_
      obtain ⟨w12, yw12, hw⟩ := hw
      refine o_callHi (pc := 321) C hs [.int v2] (st := []) yw12 (fun h n u hV => ct_X2_add l G _ _ _ _ hw h n u hV) (by decide) (by decide) q66 q1293 q1294 q1295 (lw_meth q1296) sg_X2_add (Nat.le_of_ble_eq_true rfl) dX1_does_321 (fun v15 s13 hw => o_top (fun σ14 eσ14 => ?_))
      have hw := hw σ14 eσ14
      refine a_pop (pc := 324) C dX1_does_324 rfl ?_
      refine a_goto (pc := 325) C 469 dX1_does_325 (by decide) ?_
      exact a_vret C dX1_does_469 (fun h n u hV => ⟨⟨_, rfl, hw, hV⟩, o_end hs hV⟩)
    · have hw := hw.2 c10_0
      by_cases c10_1 : x9 = 1
      · have hw := hw.1 c10_1
        refine a_tableIn (pc := 261) C 328 dX1_does_261 (by rw [c10_1]; decide) (by rw [c10_1]; decide) (by rw [c10_1]; rfl) (by decide) ?_
        refine a_aload_0 (pc := 328) C dX1_does_328 ?_
        obtain ⟨r16, fr16, hw⟩ := hw
        refine a_getf (pc := 329) C (ref := "MaltDrums") in_X1 (ci := 0) rfl 0 (by decide) q299 rfl (fun h n u hV => o_fld fr16 hV) dX1_does_329 ?_
        refine a_iload_2 (pc := 332) C dX1_does_332 ?_
        obtain ⟨w17, yw17, hw⟩ := hw
        refine o_callHi (pc := 333) C hs [.int v2] (st := []) yw17 (fun h n u hV => ct_X2_steep l G _ _ _ _ hw h n u hV) (by decide) (by decide) q66 q1337 q1338 q1339 (lw_meth q1340) sg_X2_steep (Nat.le_of_ble_eq_true rfl) dX1_does_333 (fun v20 s18 hw => o_top (fun σ19 eσ19 => ?_))
        have hw := hw σ19 eσ19
        refine a_pop (pc := 336) C dX1_does_336 rfl ?_
        refine a_goto (pc := 337) C 469 dX1_does_337 (by decide) ?_
        exact a_vret C dX1_does_469 (fun h n u hV => ⟨⟨_, rfl, hw, hV⟩, o_end hs hV⟩)
      · have hw := hw.2 c10_1
        by_cases c10_2 : x9 = 2
        · have hw := hw.1 c10_2
          refine a_tableIn (pc := 261) C 340 dX1_does_261 (by rw [c10_2]; decide) (by rw [c10_2]; decide) (by rw [c10_2]; rfl) (by decide) ?_
          refine a_aload_0 (pc := 340) C dX1_does_340 ?_
          obtain ⟨r21, fr21, hw⟩ := hw
          refine a_getf (pc := 341) C (ref := "MaltDrums") in_X1 (ci := 0) rfl 0 (by decide) q299 rfl (fun h n u hV => o_fld fr21 hV) dX1_does_341 ?_
          refine a_iload_2 (pc := 344) C dX1_does_344 ?_
          refine a_aload_1 (pc := 345) C dX1_does_345 ?_
          refine o_callVi (pc := 346) C hs [] (b := p1) (ci := 7) (st := [.int v2, .ref r21]) (fun h n u hB => ct_X9_two l G p1 E _ _ hw.2 h n u hB) (by decide) (by decide) rfl hw.1 q98 q1550 q1551 q1552 (lw_meth q1553) sg_X9_two (Nat.le_of_ble_eq_true rfl) dX1_does_346 (fun v23 σ22 hw => ?_)
          obtain ⟨w24, yw24, hw⟩ := hw
          refine o_callHi (pc := 349) C hs [.int v2, .int v23] (st := []) yw24 (fun h n u hV => ct_X2_toDrum l G _ _ _ _ _ hw h n u hV) (by decide) (by decide) q66 q1355 q1356 q1357 (lw_meth q1358) sg_X2_toDrum (Nat.le_of_ble_eq_true rfl) dX1_does_349 (fun v27 s25 hw => o_top (fun σ26 eσ26 => ?_))
          have hw := hw σ26 eσ26
          refine a_pop (pc := 352) C dX1_does_352 rfl ?_
          refine a_goto (pc := 353) C 469 dX1_does_353 (by decide) ?_
          exact a_vret C dX1_does_469 (fun h n u hV => ⟨⟨_, rfl, hw, hV⟩, o_end hs hV⟩)
        · have hw := hw.2 c10_2
          by_cases c10_3 : x9 = 3
          · have hw := hw.1 c10_3
            refine a_tableIn (pc := 261) C 356 dX1_does_261 (by rw [c10_3]; decide) (by rw [c10_3]; decide) (by rw [c10_3]; rfl) (by decide) ?_
            refine a_aload_0 (pc := 356) C dX1_does_356 ?_
            obtain ⟨r28, fr28, hw⟩ := hw
            refine a_getf (pc := 357) C (ref := "MaltDrums") in_X1 (ci := 0) rfl 0 (by decide) q299 rfl (fun h n u hV => o_fld fr28 hV) dX1_does_357 ?_
            refine a_iload_2 (pc := 360) C dX1_does_360 ?_
            obtain ⟨w29, yw29, hw⟩ := hw
            refine o_callHi (pc := 361) C hs [.int v2] (st := []) yw29 (fun h n u hV => ct_X2_toHeap l G _ _ _ _ hw h n u hV) (by decide) (by decide) q66 q1370 q1371 q1372 (lw_meth q1373) sg_X2_toHeap (Nat.le_of_ble_eq_true rfl) dX1_does_361 (fun v32 s30 hw => o_top (fun σ31 eσ31 => ?_))
            have hw := hw σ31 eσ31
            refine a_pop (pc := 364) C dX1_does_364 rfl ?_
            refine a_goto (pc := 365) C 469 dX1_does_365 (by decide) ?_
            exact a_vret C dX1_does_469 (fun h n u hV => ⟨⟨_, rfl, hw, hV⟩, o_end hs hV⟩)
          · have hw := hw.2 c10_3
            by_cases c10_4 : x9 = 4
            · have hw := hw.1 c10_4
              refine a_tableIn (pc := 261) C 368 dX1_does_261 (by rw [c10_4]; decide) (by rw [c10_4]; decide) (by rw [c10_4]; rfl) (by decide) ?_
              refine a_aload_0 (pc := 368) C dX1_does_368 ?_
              obtain ⟨r33, fr33, hw⟩ := hw
              refine a_getf (pc := 369) C (ref := "MaltDrums") in_X1 (ci := 0) rfl 0 (by decide) q299 rfl (fun h n u hV => o_fld fr33 hV) dX1_does_369 ?_
              refine a_iload_2 (pc := 372) C dX1_does_372 ?_
              obtain ⟨w34, yw34, hw⟩ := hw
              refine o_callHi (pc := 373) C hs [.int v2] (st := []) yw34 (fun h n u hV => ct_X2_load l G _ _ _ _ hw h n u hV) (by decide) (by decide) q66 q1386 q1387 q1388 (lw_meth q1389) sg_X2_load (Nat.le_of_ble_eq_true rfl) dX1_does_373 (fun v37 s35 hw => o_top (fun σ36 eσ36 => ?_))
              have hw := hw σ36 eσ36
              refine a_pop (pc := 376) C dX1_does_376 rfl ?_
              refine a_goto (pc := 377) C 469 dX1_does_377 (by decide) ?_
              exact a_vret C dX1_does_469 (fun h n u hV => ⟨⟨_, rfl, hw, hV⟩, o_end hs hV⟩)
            · have hw := hw.2 c10_4
              by_cases c10_5 : x9 = 5
              · have hw := hw.1 c10_5
                refine a_tableIn (pc := 261) C 380 dX1_does_261 (by rw [c10_5]; decide) (by rw [c10_5]; decide) (by rw [c10_5]; rfl) (by decide) ?_
                refine a_aload_0 (pc := 380) C dX1_does_380 ?_
                obtain ⟨r38, fr38, hw⟩ := hw
                refine a_getf (pc := 381) C (ref := "MaltDrums") in_X1 (ci := 0) rfl 0 (by decide) q299 rfl (fun h n u hV => o_fld fr38 hV) dX1_does_381 ?_
                refine a_iload_2 (pc := 384) C dX1_does_384 ?_
                obtain ⟨w39, yw39, hw⟩ := hw
                refine o_callHi (pc := 385) C hs [.int v2] (st := []) yw39 (fun h n u hV => ct_X2_spray l G _ _ _ _ hw h n u hV) (by decide) (by decide) q66 q1416 q1417 q1418 (lw_meth q1419) sg_X2_spray (Nat.le_of_ble_eq_true rfl) dX1_does_385 (fun v42 s40 hw => o_top (fun σ41 eσ41 => ?_))
                have hw := hw σ41 eσ41
                refine a_pop (pc := 388) C dX1_does_388 rfl ?_
                refine a_goto (pc := 389) C 469 dX1_does_389 (by decide) ?_
                exact a_vret C dX1_does_469 (fun h n u hV => ⟨⟨_, rfl, hw, hV⟩, o_end hs hV⟩)
              · have hw := hw.2 c10_5
                by_cases c10_6 : x9 = 6
                · have hw := hw.1 c10_6
                  refine a_tableIn (pc := 261) C 392 dX1_does_261 (by rw [c10_6]; decide) (by rw [c10_6]; decide) (by rw [c10_6]; rfl) (by decide) ?_
                  refine a_aload_0 (pc := 392) C dX1_does_392 ?_
                  obtain ⟨r43, fr43, hw⟩ := hw
                  refine a_getf (pc := 393) C (ref := "MaltDrums") in_X1 (ci := 0) rfl 0 (by decide) q299 rfl (fun h n u hV => o_fld fr43 hV) dX1_does_393 ?_
                  obtain ⟨w44, yw44, hw⟩ := hw
                  refine o_callHi (pc := 396) C hs [] (st := []) yw44 (fun h n u hV => ct_X2_light l G _ _ _ hw h n u hV) (by decide) (by decide) q66 q1401 q1402 q1403 (lw_meth q1404) sg_X2_light (Nat.le_of_ble_eq_true rfl) dX1_does_396 (fun v47 s45 hw => o_top (fun σ46 eσ46 => ?_))
                  have hw := hw σ46 eσ46
                  refine a_pop (pc := 399) C dX1_does_399 rfl ?_
                  refine a_goto (pc := 400) C 469 dX1_does_400 (by decide) ?_
                  exact a_vret C dX1_does_469 (fun h n u hV => ⟨⟨_, rfl, hw, hV⟩, o_end hs hV⟩)
                · have hw := hw.2 c10_6
                  by_cases c10_7 : x9 = 7
                  · have hw := hw.1 c10_7
                    refine a_tableIn (pc := 261) C 403 dX1_does_261 (by rw [c10_7]; decide) (by rw [c10_7]; decide) (by rw [c10_7]; rfl) (by decide) ?_
                    refine a_aload_0 (pc := 403) C dX1_does_403 ?_
                    obtain ⟨r48, fr48, hw⟩ := hw
                    refine a_getf (pc := 404) C (ref := "MaltDrums") in_X1 (ci := 0) rfl 0 (by decide) q299 rfl (fun h n u hV => o_fld fr48 hV) dX1_does_404 ?_
                    obtain ⟨w49, yw49, hw⟩ := hw
                    refine a_getfN (pc := 407) C (ref := "MaltDrums$House") (v := .ref (r48 + 8)) in_X2 (ci := 1) rfl 7 (by decide) q172 rfl (fun h n u hV => o_hfld yw49 (fun _ => rfl) hV) dX1_does_407 ?_
                    refine a_iload_2 (pc := 410) C dX1_does_410 ?_
                    obtain ⟨w50, yw50, iw50, hw⟩ := hw
                    refine o_haald (pc := 411) C yw50 iw50 dX1_does_411 ?_
                    refine a_aload_1 (pc := 412) C dX1_does_412 ?_
                    refine o_callVi (pc := 413) C hs [] (b := p1) (ci := 7) (st := [.ref (r48 + 9 + (1 + (v2.toNatClampNeg)))]) (fun h n u hB => ct_X9_two l G p1 E _ _ hw.2 h n u hB) (by decide) (by decide) rfl hw.1 q98 q1550 q1551 q1552 (lw_meth q1553) sg_X9_two (Nat.le_of_ble_eq_true rfl) dX1_does_413 (fun v52 σ51 hw => ?_)
                    obtain ⟨w54, yw54, dw54, hw⟩ := hw
                    refine a_dom fun h n u hV hdm => ?_
                    refine a_putfN (pc := 416) C (ref := "MaltDrums$Drum") (V1 := OW h0 n0 u0 E σ.2.2.1 (oHc σ51 r48 (hU (w54.1, w54.2, σ51.2.2.1) (7 + 1) (v2.toNatClampNeg) v52))) in_X5 tyX5 tyX5_ok nmX5 (ci := 3) rfl 1 (by decide) q143 rfl rfl rfl rfl (fun h n u hI => by obtain ⟨rfl, rfl, rfl⟩ := hI; exact o_hputd (k := 1) (x := v52) yw54 (by decide) dw54 hdm hV) dX1_does_416 (o_top (fun σ53 eσ53 => ?_))
                    have hw := hw σ53 eσ53
                    refine a_goto (pc := 419) C 469 dX1_does_419 (by decide) ?_
                    exact a_vret C dX1_does_469 (fun h n u hV => ⟨⟨_, rfl, hw, hV⟩, o_end hs hV⟩)
                  · have hw := hw.2 c10_7
                    by_cases c10_8 : x9 = 8
                    · have hw := hw.1 c10_8
                      refine a_tableIn (pc := 261) C 422 dX1_does_261 (by rw [c10_8]; decide) (by rw [c10_8]; decide) (by rw [c10_8]; rfl) (by decide) ?_
                      refine a_aload_0 (pc := 422) C dX1_does_422 ?_
                      obtain ⟨r55, fr55, hw⟩ := hw
                      refine a_getf (pc := 423) C (ref := "MaltDrums") in_X1 (ci := 0) rfl 0 (by decide) q299 rfl (fun h n u hV => o_fld fr55 hV) dX1_does_423 ?_
                      obtain ⟨w56, yw56, hw⟩ := hw
                      refine a_getfN (pc := 426) C (ref := "MaltDrums$House") (v := .ref (r55 + 8)) in_X2 (ci := 1) rfl 7 (by decide) q172 rfl (fun h n u hV => o_hfld yw56 (fun _ => rfl) hV) dX1_does_426 ?_
                      refine a_iload_2 (pc := 429) C dX1_does_429 ?_
                      obtain ⟨w57, yw57, iw57, hw⟩ := hw
                      refine o_haald (pc := 430) C yw57 iw57 dX1_does_430 ?_
                      refine a_aload_1 (pc := 431) C dX1_does_431 ?_
                      refine o_callVi (pc := 432) C hs [] (b := p1) (ci := 7) (st := [.ref (r55 + 9 + (1 + (v2.toNatClampNeg)))]) (fun h n u hB => ct_X9_two l G p1 E _ _ hw.2 h n u hB) (by decide) (by decide) rfl hw.1 q98 q1550 q1551 q1552 (lw_meth q1553) sg_X9_two (Nat.le_of_ble_eq_true rfl) dX1_does_432 (fun v59 σ58 hw => ?_)
                      obtain ⟨w61, yw61, dw61, hw⟩ := hw
                      refine a_dom fun h n u hV hdm => ?_
                      refine a_putfN (pc := 435) C (ref := "MaltDrums$Drum") (V1 := OW h0 n0 u0 E σ.2.2.1 (oHc σ58 r55 (hU (w61.1, w61.2, σ58.2.2.1) (7 + 2) (v2.toNatClampNeg) v59))) in_X5 tyX5 tyX5_ok nmX5 (ci := 3) rfl 2 (by decide) q145 rfl rfl rfl rfl (fun h n u hI => by obtain ⟨rfl, rfl, rfl⟩ := hI; exact o_hputd (k := 2) (x := v59) yw61 (by decide) dw61 hdm hV) dX1_does_435 (o_top (fun σ60 eσ60 => ?_))
                      have hw := hw σ60 eσ60
                      refine a_goto (pc := 438) C 469 dX1_does_438 (by decide) ?_
                      exact a_vret C dX1_does_469 (fun h n u hV => ⟨⟨_, rfl, hw, hV⟩, o_end hs hV⟩)
                    · have hw := hw.2 c10_8
                      by_cases c10_9 : x9 = 9
                      · have hw := hw.1 c10_9
                        refine a_tableIn (pc := 261) C 441 dX1_does_261 (by rw [c10_9]; decide) (by rw [c10_9]; decide) (by rw [c10_9]; rfl) (by decide) ?_
                        refine a_aload_0 (pc := 441) C dX1_does_441 ?_
                        obtain ⟨r62, fr62, hw⟩ := hw
                        refine a_getf (pc := 442) C (ref := "MaltDrums") in_X1 (ci := 0) rfl 0 (by decide) q299 rfl (fun h n u hV => o_fld fr62 hV) dX1_does_442 ?_
                        obtain ⟨w63, yw63, hw⟩ := hw
                        refine a_getfN (pc := 445) C (ref := "MaltDrums$House") (v := .ref (r62 + 8)) in_X2 (ci := 1) rfl 7 (by decide) q172 rfl (fun h n u hV => o_hfld yw63 (fun _ => rfl) hV) dX1_does_445 ?_
                        refine a_iload_2 (pc := 448) C dX1_does_448 ?_
                        obtain ⟨w64, yw64, iw64, hw⟩ := hw
                        refine o_haald (pc := 449) C yw64 iw64 dX1_does_449 ?_
                        refine a_aload_1 (pc := 450) C dX1_does_450 ?_
                        refine o_callVi (pc := 451) C hs [] (b := p1) (ci := 7) (st := [.ref (r62 + 9 + (1 + (v2.toNatClampNeg)))]) (fun h n u hB => ct_X9_two l G p1 E _ _ hw.2 h n u hB) (by decide) (by decide) rfl hw.1 q98 q1550 q1551 q1552 (lw_meth q1553) sg_X9_two (Nat.le_of_ble_eq_true rfl) dX1_does_451 (fun v66 σ65 hw => ?_)
                        obtain ⟨w68, yw68, dw68, hw⟩ := hw
                        refine a_dom fun h n u hV hdm => ?_
                        refine a_putfN (pc := 454) C (ref := "MaltDrums$Drum") (V1 := OW h0 n0 u0 E σ.2.2.1 (oHc σ65 r62 (hU (w68.1, w68.2, σ65.2.2.1) (7 + 3) (v2.toNatClampNeg) v66))) in_X5 tyX5 tyX5_ok nmX5 (ci := 3) rfl 3 (by decide) q147 rfl rfl rfl rfl (fun h n u hI => by obtain ⟨rfl, rfl, rfl⟩ := hI; exact o_hputd (k := 3) (x := v66) yw68 (by decide) dw68 hdm hV) dX1_does_454 (o_top (fun σ67 eσ67 => ?_))
                        have hw := hw σ67 eσ67
                        refine a_goto (pc := 457) C 469 dX1_does_457 (by decide) ?_
                        exact a_vret C dX1_does_469 (fun h n u hV => ⟨⟨_, rfl, hw, hV⟩, o_end hs hV⟩)
                      · have hw := hw.2 c10_9
                        refine a_tableOut (pc := 261) C 460 dX1_does_261 (by have := lv_neT c10_0 (a := 0) (by decide); have := lv_neT c10_1 (a := 1) (by decide); have := lv_neT c10_2 (a := 2) (by decide); have := lv_neT c10_3 (a := 3) (by decide); have := lv_neT c10_4 (a := 4) (by decide); have := lv_neT c10_5 (a := 5) (by decide); have := lv_neT c10_6 (a := 6) (by decide); have := lv_neT c10_7 (a := 7) (by decide); have := lv_neT c10_8 (a := 8) (by decide); have := lv_neT c10_9 (a := 9) (by decide); omega) (by decide) ?_
                        refine a_aload_0 (pc := 460) C dX1_does_460 ?_
                        obtain ⟨r69, fr69, hw⟩ := hw
                        refine a_getf (pc := 461) C (ref := "MaltDrums") in_X1 (ci := 0) rfl 0 (by decide) q299 rfl (fun h n u hV => o_fld fr69 hV) dX1_does_461 ?_
                        refine a_iload_2 (pc := 464) C dX1_does_464 ?_
                        obtain ⟨w70, yw70, hw⟩ := hw
                        refine o_callHi (pc := 465) C hs [.int v2] (st := []) yw70 (fun h n u hV => ct_X2_pass l G _ _ _ _ hw h n u hV) (by decide) (by decide) q66 q1465 q1466 q1467 (lw_meth q1468) sg_X2_pass (Nat.le_of_ble_eq_true rfl) dX1_does_465 (fun v73 s71 hw => o_top (fun σ72 eσ72 => ?_))
                        have hw := hw σ72 eσ72
                        refine a_pop (pc := 468) C dX1_does_468 rfl ?_
                        exact a_vret C dX1_does_469 (fun h n u hV => ⟨⟨_, rfl, hw, hV⟩, o_end hs hV⟩)
  by_cases c7_0 : v6 = 43
  · have hw := hw.1 c7_0
    refine a_lookup (pc := 17) C 108 dX1_does_17 (by decide) (by rw [c7_0]; try decide) (by decide) ?_
    refine a_aload_3 (pc := 108) C dX1_does_108 ?_
    refine a_ldcS (pc := 109) C ((C.SC.2.2.2.2.2.2 12 _ rfl).1) dX1_does_109 ?_
    obtain ⟨v74, x76, x77, f75, y1, y2, hw⟩ := hw
    refine o_strEq (pc := 111) C hs 12 (st := []) (ch := 43) rfl rfl y1 y2 (by decide) q1543 (Nat.le_of_ble_eq_true rfl) dX1_does_111 (fun v78 ev78 => ?_)
    have hw := hw v78 ev78
    refine a_if_eq (pc := 114) C 259 dX1_does_114 (by decide) (fun c79 => ?_) (fun c79 => ?_)
    · have hw := hw.1 c79
      exact hkj8 _ hw
    · have hw := hw.2 c79
      refine a_iconst (pc := 117) C dX1_does_117 ic_0 ?_
      refine a_istore_4 (pc := 118) C dX1_does_118 (by decide) rfl ?_
      refine a_goto (pc := 120) C 259 dX1_does_120 (by decide) ?_
      exact hkj8 _ hw
  · have hw := hw.2 c7_0
    by_cases c7_1 : v6 = 97
    · have hw := hw.1 c7_1
      refine a_lookup (pc := 17) C 214 dX1_does_17 (by decide) (by rw [c7_1]; try decide) (by decide) ?_
      refine a_aload_3 (pc := 214) C dX1_does_214 ?_
      refine a_ldcS (pc := 215) C ((C.SC.2.2.2.2.2.2 19 _ rfl).1) dX1_does_215 ?_
      obtain ⟨v80, x82, x83, f81, y1, y2, hw⟩ := hw
      refine o_strEq (pc := 217) C hs 19 (st := []) (ch := 97) rfl rfl y1 y2 (by decide) q1543 (Nat.le_of_ble_eq_true rfl) dX1_does_217 (fun v84 ev84 => ?_)
      have hw := hw v84 ev84
      refine a_if_eq (pc := 220) C 259 dX1_does_220 (by decide) (fun c85 => ?_) (fun c85 => ?_)
      · have hw := hw.1 c85
        exact hkj8 _ hw
      · have hw := hw.2 c85
        refine a_bipush (pc := 223) C dX1_does_223 bc_7 ?_
        refine a_istore_4 (pc := 225) C dX1_does_225 (by decide) rfl ?_
        refine a_goto (pc := 227) C 259 dX1_does_227 (by decide) ?_
        exact hkj8 _ hw
    · have hw := hw.2 c7_1
      by_cases c7_2 : v6 = 100
      · have hw := hw.1 c7_2
        refine a_lookup (pc := 17) C 138 dX1_does_17 (by decide) (by rw [c7_2]; try decide) (by decide) ?_
        refine a_aload_3 (pc := 138) C dX1_does_138 ?_
        refine a_ldcS (pc := 139) C ((C.SC.2.2.2.2.2.2 14 _ rfl).1) dX1_does_139 ?_
        obtain ⟨v86, x88, x89, f87, y1, y2, hw⟩ := hw
        refine o_strEq (pc := 141) C hs 14 (st := []) (ch := 100) rfl rfl y1 y2 (by decide) q1543 (Nat.le_of_ble_eq_true rfl) dX1_does_141 (fun v90 ev90 => ?_)
        have hw := hw v90 ev90
        refine a_if_eq (pc := 144) C 259 dX1_does_144 (by decide) (fun c91 => ?_) (fun c91 => ?_)
        · have hw := hw.1 c91
          exact hkj8 _ hw
        · have hw := hw.2 c91
          refine a_iconst (pc := 147) C dX1_does_147 ic_2 ?_
          refine a_istore_4 (pc := 148) C dX1_does_148 (by decide) rfl ?_
          refine a_goto (pc := 150) C 259 dX1_does_150 (by decide) ?_
          exact hkj8 _ hw
      · have hw := hw.2 c7_2
        by_cases c7_3 : v6 = 104
        · have hw := hw.1 c7_3
          refine a_lookup (pc := 17) C 153 dX1_does_17 (by decide) (by rw [c7_3]; try decide) (by decide) ?_
          refine a_aload_3 (pc := 153) C dX1_does_153 ?_
          refine a_ldcS (pc := 154) C ((C.SC.2.2.2.2.2.2 15 _ rfl).1) dX1_does_154 ?_
          obtain ⟨v92, x94, x95, f93, y1, y2, hw⟩ := hw
          refine o_strEq (pc := 156) C hs 15 (st := []) (ch := 104) rfl rfl y1 y2 (by decide) q1543 (Nat.le_of_ble_eq_true rfl) dX1_does_156 (fun v96 ev96 => ?_)
          have hw := hw v96 ev96
          refine a_if_eq (pc := 159) C 259 dX1_does_159 (by decide) (fun c97 => ?_) (fun c97 => ?_)
          · have hw := hw.1 c97
            exact hkj8 _ hw
          · have hw := hw.2 c97
            refine a_iconst (pc := 162) C dX1_does_162 ic_3 ?_
            refine a_istore_4 (pc := 163) C dX1_does_163 (by decide) rfl ?_
            refine a_goto (pc := 165) C 259 dX1_does_165 (by decide) ?_
            exact hkj8 _ hw
        · have hw := hw.2 c7_3
          by_cases c7_4 : v6 = 107
          · have hw := hw.1 c7_4
            refine a_lookup (pc := 17) C 168 dX1_does_17 (by decide) (by rw [c7_4]; try decide) (by decide) ?_
            refine a_aload_3 (pc := 168) C dX1_does_168 ?_
            refine a_ldcS (pc := 169) C ((C.SC.2.2.2.2.2.2 16 _ rfl).1) dX1_does_169 ?_
            obtain ⟨v98, x100, x101, f99, y1, y2, hw⟩ := hw
            refine o_strEq (pc := 171) C hs 16 (st := []) (ch := 107) rfl rfl y1 y2 (by decide) q1543 (Nat.le_of_ble_eq_true rfl) dX1_does_171 (fun v102 ev102 => ?_)
            have hw := hw v102 ev102
            refine a_if_eq (pc := 174) C 259 dX1_does_174 (by decide) (fun c103 => ?_) (fun c103 => ?_)
            · have hw := hw.1 c103
              exact hkj8 _ hw
            · have hw := hw.2 c103
              refine a_iconst (pc := 177) C dX1_does_177 ic_4 ?_
              refine a_istore_4 (pc := 178) C dX1_does_178 (by decide) rfl ?_
              refine a_goto (pc := 180) C 259 dX1_does_180 (by decide) ?_
              exact hkj8 _ hw
          · have hw := hw.2 c7_4
            by_cases c7_5 : v6 = 108
            · have hw := hw.1 c7_5
              refine a_lookup (pc := 17) C 198 dX1_does_17 (by decide) (by rw [c7_5]; try decide) (by decide) ?_
              refine a_aload_3 (pc := 198) C dX1_does_198 ?_
              refine a_ldcS (pc := 199) C ((C.SC.2.2.2.2.2.2 18 _ rfl).1) dX1_does_199 ?_
              obtain ⟨v104, x106, x107, f105, y1, y2, hw⟩ := hw
              refine o_strEq (pc := 201) C hs 18 (st := []) (ch := 108) rfl rfl y1 y2 (by decide) q1543 (Nat.le_of_ble_eq_true rfl) dX1_does_201 (fun v108 ev108 => ?_)
              have hw := hw v108 ev108
              refine a_if_eq (pc := 204) C 259 dX1_does_204 (by decide) (fun c109 => ?_) (fun c109 => ?_)
              · have hw := hw.1 c109
                exact hkj8 _ hw
              · have hw := hw.2 c109
                refine a_bipush (pc := 207) C dX1_does_207 bc_6 ?_
                refine a_istore_4 (pc := 209) C dX1_does_209 (by decide) rfl ?_
                refine a_goto (pc := 211) C 259 dX1_does_211 (by decide) ?_
                exact hkj8 _ hw
            · have hw := hw.2 c7_5
              by_cases c7_6 : v6 = 112
              · have hw := hw.1 c7_6
                refine a_lookup (pc := 17) C 183 dX1_does_17 (by decide) (by rw [c7_6]; try decide) (by decide) ?_
                refine a_aload_3 (pc := 183) C dX1_does_183 ?_
                refine a_ldcS (pc := 184) C ((C.SC.2.2.2.2.2.2 17 _ rfl).1) dX1_does_184 ?_
                obtain ⟨v110, x112, x113, f111, y1, y2, hw⟩ := hw
                refine o_strEq (pc := 186) C hs 17 (st := []) (ch := 112) rfl rfl y1 y2 (by decide) q1543 (Nat.le_of_ble_eq_true rfl) dX1_does_186 (fun v114 ev114 => ?_)
                have hw := hw v114 ev114
                refine a_if_eq (pc := 189) C 259 dX1_does_189 (by decide) (fun c115 => ?_) (fun c115 => ?_)
                · have hw := hw.1 c115
                  exact hkj8 _ hw
                · have hw := hw.2 c115
                  refine a_iconst (pc := 192) C dX1_does_192 ic_5 ?_
                  refine a_istore_4 (pc := 193) C dX1_does_193 (by decide) rfl ?_
                  refine a_goto (pc := 195) C 259 dX1_does_195 (by decide) ?_
                  exact hkj8 _ hw
              · have hw := hw.2 c7_6
                by_cases c7_7 : v6 = 115
                · have hw := hw.1 c7_7
                  refine a_lookup (pc := 17) C 123 dX1_does_17 (by decide) (by rw [c7_7]; try decide) (by decide) ?_
                  refine a_aload_3 (pc := 123) C dX1_does_123 ?_
                  refine a_ldcS (pc := 124) C ((C.SC.2.2.2.2.2.2 13 _ rfl).1) dX1_does_124 ?_
                  obtain ⟨v116, x118, x119, f117, y1, y2, hw⟩ := hw
                  refine o_strEq (pc := 126) C hs 13 (st := []) (ch := 115) rfl rfl y1 y2 (by decide) q1543 (Nat.le_of_ble_eq_true rfl) dX1_does_126 (fun v120 ev120 => ?_)
                  have hw := hw v120 ev120
                  refine a_if_eq (pc := 129) C 259 dX1_does_129 (by decide) (fun c121 => ?_) (fun c121 => ?_)
                  · have hw := hw.1 c121
                    exact hkj8 _ hw
                  · have hw := hw.2 c121
                    refine a_iconst (pc := 132) C dX1_does_132 ic_1 ?_
                    refine a_istore_4 (pc := 133) C dX1_does_133 (by decide) rfl ?_
                    refine a_goto (pc := 135) C 259 dX1_does_135 (by decide) ?_
                    exact hkj8 _ hw
                · have hw := hw.2 c7_7
                  by_cases c7_8 : v6 = 116
                  · have hw := hw.1 c7_8
                    refine a_lookup (pc := 17) C 246 dX1_does_17 (by decide) (by rw [c7_8]; try decide) (by decide) ?_
                    refine a_aload_3 (pc := 246) C dX1_does_246 ?_
                    refine a_ldcS (pc := 247) C ((C.SC.2.2.2.2.2.2 21 _ rfl).1) dX1_does_247 ?_
                    obtain ⟨v122, x124, x125, f123, y1, y2, hw⟩ := hw
                    refine o_strEq (pc := 249) C hs 21 (st := []) (ch := 116) rfl rfl y1 y2 (by decide) q1543 (Nat.le_of_ble_eq_true rfl) dX1_does_249 (fun v126 ev126 => ?_)
                    have hw := hw v126 ev126
                    refine a_if_eq (pc := 252) C 259 dX1_does_252 (by decide) (fun c127 => ?_) (fun c127 => ?_)
                    · have hw := hw.1 c127
                      exact hkj8 _ hw
                    · have hw := hw.2 c127
                      refine a_bipush (pc := 255) C dX1_does_255 bc_9 ?_
                      refine a_istore_4 (pc := 257) C dX1_does_257 (by decide) rfl ?_
                      exact hkj8 _ hw
                  · have hw := hw.2 c7_8
                    by_cases c7_9 : v6 = 119
                    · have hw := hw.1 c7_9
                      refine a_lookup (pc := 17) C 230 dX1_does_17 (by decide) (by rw [c7_9]; try decide) (by decide) ?_
                      refine a_aload_3 (pc := 230) C dX1_does_230 ?_
                      refine a_ldcS (pc := 231) C ((C.SC.2.2.2.2.2.2 20 _ rfl).1) dX1_does_231 ?_
                      obtain ⟨v128, x130, x131, f129, y1, y2, hw⟩ := hw
                      refine o_strEq (pc := 233) C hs 20 (st := []) (ch := 119) rfl rfl y1 y2 (by decide) q1543 (Nat.le_of_ble_eq_true rfl) dX1_does_233 (fun v132 ev132 => ?_)
                      have hw := hw v132 ev132
                      refine a_if_eq (pc := 236) C 259 dX1_does_236 (by decide) (fun c133 => ?_) (fun c133 => ?_)
                      · have hw := hw.1 c133
                        exact hkj8 _ hw
                      · have hw := hw.2 c133
                        refine a_bipush (pc := 239) C dX1_does_239 bc_8 ?_
                        refine a_istore_4 (pc := 241) C dX1_does_241 (by decide) rfl ?_
                        refine a_goto (pc := 243) C 259 dX1_does_243 (by decide) ?_
                        exact hkj8 _ hw
                    · have hw := hw.2 c7_9
                      refine a_lookup (pc := 17) (off := 242) C 259 dX1_does_17 (by decide) (by have y0 := lv_neT c7_0 (a := 43) (by decide); have y1 := lv_neT c7_1 (a := 97) (by decide); have y2 := lv_neT c7_2 (a := 100) (by decide); have y3 := lv_neT c7_3 (a := 104) (by decide); have y4 := lv_neT c7_4 (a := 107) (by decide); have y5 := lv_neT c7_5 (a := 108) (by decide); have y6 := lv_neT c7_6 (a := 112) (by decide); have y7 := lv_neT c7_7 (a := 115) (by decide); have y8 := lv_neT c7_8 (a := 116) (by decide); have y9 := lv_neT c7_9 (a := 119) (by decide); simp only [Op.lookupswitch.offset_cons, Op.lookupswitch.offset_nil]; repeat rw [if_neg (by omega)]) (by decide) ?_
                      exact hkj8 _ hw
