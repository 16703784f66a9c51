set_option maxRecDepth 100000
/-! PLAIN: calls that change, 2; by program -/
section SM
variable {T T' x out n j : Nat} {σ : OS} {μ : MS} {z z' : Zz} {a b p : Int32}
theorem noSteep_0 (h : znoSteep z n j = 0) : ofz z j 0 = 0 := by
  unfold znoSteep at h
  by_cases c : ofz z j 0 = 0
  · exact c
  · rw [if_neg c] at h
    exact absurd h (by decide)
theorem noDrum_0 {d : Int32} (h : znoDrum z n j d = 0) : (ofz z j 0 = 1 ∨ ofz z j 0 = 2 ∨ ofz z j 0 = 3) ∧ zind z d n = -1 := by
  unfold znoDrum zdrumR at h
  by_cases c1 : ofz z j 0 = 1
  · rw [if_pos c1] at h
    by_cases c2 : zind z d n = -1
    · exact ⟨Or.inl c1, c2⟩
    · rw [if_neg c2] at h
      exact absurd h (by decide)
  · rw [if_neg c1] at h
    by_cases c3 : ofz z j 0 = 2 ∨ ofz z j 0 = 3
    · rw [if_pos c3] at h
      by_cases c2 : zind z d n = -1
      · exact ⟨Or.inr c3, c2⟩
      · rw [if_neg c2] at h
        exact absurd h (by decide)
    · rw [if_neg c3] at h
      exact absurd h (by decide)
theorem canHeap_1 (h : ¬ zcanHeap z j = 0) : ofz z j 0 = 1 ∨ ofz z j 0 = 2 := by
  unfold zcanHeap at h
  by_cases c1 : ofz z j 0 = 1
  · exact Or.inl c1
  · rw [if_neg c1] at h
    by_cases c2 : ofz z j 0 = 2
    · exact Or.inr c2
    · rw [if_neg c2] at h
      exact absurd rfl h
theorem noLoad_0 (h : znoLoad z n j = 0) : ofz z j 0 = 2 ∨ ofz z j 0 = 3 := by
  unfold znoLoad at h
  by_cases c : ofz z j 0 = 2 ∨ ofz z j 0 = 3
  · exact c
  · rw [if_neg c] at h
    exact absurd h (by decide)
theorem noSpray_0 (h : znoSpray z j = 0) : ofz z j 0 = 2 ∨ ofz z j 0 = 3 := by
  unfold znoSpray at h
  by_cases c : ofz z j 0 = 2 ∨ ofz z j 0 = 3
  · exact c
  · rw [if_neg c] at h
    exact absurd h (by decide)
theorem canLight_1 (h : ¬ zcanLight z n = 0) : z 1 = 0 ∧ ¬ zcnt z n 4 ≤ 0 := by
  unfold zcanLight at h
  by_cases c1 : z 1 = 0
  · rw [if_pos c1] at h
    by_cases c2 : zcnt z n 4 ≤ 0
    · rw [if_pos c2] at h
      exact absurd rfl h
    · exact ⟨c1, c2⟩
  · rw [if_neg c1] at h
    exact absurd rfl h
theorem sim_steep (hR : RO T x out σ.1 σ.2.1 μ) (hκ : σ.2.2.1 = 5000) (hN : σ.2.2.2.1 = 0) : Sim T x out (wp_X1_steep x p σ) (wp_X6_steep p μ) cd02 := by
  obtain ⟨hA, y, L, n, hF, hC, hH, h1, h2, h12, h7⟩ := hR.begin
  obtain ⟨q0, qE, qS, qG, qD, qB, qI⟩ := id h1
  by_cases c1 : lotV n p = 0
  · refine Or.inr ⟨0, 0, mU μ 5 3 1, by decide, fun Q X hX => ?_, fun Q hQ => ?_, mU_us⟩
    · unfold wp_X1_steep
      exact ⟨hC, x1_needLot hF hH h1.lots hN (by omega) (fun d => absurd c1 d) (fun _ => hX (oXs σ 0) (hR.thr 1))⟩
    · unfold wp_X6_steep
      exact x6_isLot h7 (x6_isLot h7 (jnI ⟨fun _ => goes1 c1 ⟨fun d => absurd rfl d, fun _ => hQ⟩, fun d => absurd c1 d⟩))
  obtain ⟨j, hj, rfl⟩ := lotV_j h12 c1
  have hlj := qI.2.1 j hj
  by_cases c2 : znoSteep (μ 0) n j = 0
  rotate_left
  · skip
    refine Or.inr ⟨2, 0, mU μ 5 3 2, by decide, fun Q X hX => ?_, fun Q hQ => ?_, mU_us⟩
    · unfold wp_X1_steep
      refine ⟨hC, x1_needLot hF hH h1.lots hN (by omega) (fun _ => ⟨hA, hF, (y, L), hH, x2_whyNotSteep (s := (y, L, σ.2.2.1)) h1.lots qE h12 hj (fun σ5 e5 => ?_)⟩) (fun d => absurd d c1)⟩
      rw [oHc_same (w := (y, L)) hN hH] at e5
      rw [e5]
      exact jnI ⟨fun _ => ⟨fun d => absurd rfl d, fun _ => ⟨by omega, hX (oXs σ 0) (hR.thr 2)⟩⟩, fun d => absurd d c2⟩
    · unfold wp_X6_steep
      exact x6_isLot h7 (x6_isLot h7 (jnI ⟨fun d => absurd d c1, fun _ => x6_noSteep h7 h12 hj ⟨fun _ => goes2 c1 rfl ⟨fun d => absurd rfl d, fun _ => hQ⟩, fun d => absurd d c2⟩⟩))
  · refine sim_mut (n' := n) (z' := zSteep (μ 0) j) (v := zSteep (μ 0) j 8) (BODY := fun σ9 Q => (∃ r10 : Nat, oF σ9 x 0 0 (.ref r10) ∧ (∃ w11 : MS × List Int32, σ9.2.1 r10 = some w11 ∧ wp_X2_steep (nI j) (w11.1, w11.2, σ9.2.2.1) (fun v14 s12 => ∀ σ13 : OS, σ13 = oHc σ9 r10 s12 → (Q v14 σ13))))) (OPM := fun σ8 Q => (wp_X6_steeps (nI j) σ8 (fun σ13 => (vp_in 8 (mLen 0) ∧ (Q (σ13 0 (8 : Int32).toNatClampNeg) σ13))))) hR hκ (Nat.le_refl _) (fun Q X h => ?_) (fun Q h => ?_) (fun σ9 hA y L n9 f1 _ f2 f3 f4 f5 f6 Q hQ => ?_) (fun σ8 e8 Q hQ => ?_)
    · unfold wp_X1_steep
      refine ⟨hC, x1_needLot hF hH h1.lots hN (by omega) (fun _ => ⟨hA, hF, (y, L), hH, x2_whyNotSteep (s := (y, L, σ.2.2.1)) h1.lots qE h12 hj (fun σ5 e5 => ?_)⟩) (fun d => absurd d c1)⟩
      rw [oHc_same (w := (y, L)) hN hH] at e5
      rw [e5]
      exact jnI ⟨fun d => absurd c2 d, fun _ => ⟨fun _ => ⟨hC, h⟩, fun d => absurd d (by decide)⟩⟩
    · unfold wp_X6_steep
      exact x6_isLot h7 (x6_isLot h7 (jnI ⟨fun d => absurd d c1, fun _ => x6_noSteep h7 h12 hj ⟨fun d => absurd c2 d, fun _ => goesY c1 (by decide) ⟨fun _ => h, fun d => absurd d (by decide)⟩⟩⟩))
    · obtain rfl := h1.nn f3
      exact ⟨hA, f1, (y, L), f2, x2_steep (c := 0) (RK.of f3 (by omega)) f4 hj (noSteep_0 c2) (fun s' g1 g2 σ13 e13 => by rw [e13]; exact hQ s' g1.1 g2)⟩
    · refine x6_steeps (by omega) ?_
      rw [e8, zc8, mZ_0]
      exact ⟨zv8, hQ⟩
theorem sim_toHeap (hR : RO T x out σ.1 σ.2.1 μ) (hκ : σ.2.2.1 = 5000) (hN : σ.2.2.2.1 = 0) : Sim T x out (wp_X1_toHeap x p σ) (wp_X6_toHeap p μ) cd02 := by
  obtain ⟨hA, y, L, n, hF, hC, hH, h1, h2, h12, h7⟩ := hR.begin
  obtain ⟨q0, qE, qS, qG, qD, qB, qI⟩ := id h1
  by_cases c1 : lotV n p = 0
  · refine Or.inr ⟨0, 0, mU μ 5 3 1, by decide, fun Q X hX => ?_, fun Q hQ => ?_, mU_us⟩
    · unfold wp_X1_toHeap
      exact ⟨hC, x1_needLot hF hH h1.lots hN (by omega) (fun d => absurd c1 d) (fun _ => hX (oXs σ 0) (hR.thr 1))⟩
    · unfold wp_X6_toHeap
      exact x6_isLot h7 (x6_isLot h7 (jnI ⟨fun _ => goes1 c1 ⟨fun d => absurd rfl d, fun _ => hQ⟩, fun d => absurd c1 d⟩))
  obtain ⟨j, hj, rfl⟩ := lotV_j h12 c1
  have hlj := qI.2.1 j hj
  by_cases c2 : ¬ zcanHeap (μ 0) j = 0
  rotate_left
  · have c2 : zcanHeap (μ 0) j = 0 := Classical.byContradiction c2
    refine Or.inr ⟨2, 0, mU μ 5 3 2, by decide, fun Q X hX => ?_, fun Q hQ => ?_, mU_us⟩
    · unfold wp_X1_toHeap
      refine ⟨hC, x1_needLot hF hH h1.lots hN (by omega) (fun _ => ⟨hA, hF, (y, L), hH, x2_canHeap (s := (y, L, σ.2.2.1)) qE h12 hj (fun σ5 e5 => ?_)⟩) (fun d => absurd d c1)⟩
      rw [oHc_same (w := (y, L)) hN hH] at e5
      rw [e5]
      exact ⟨fun d => absurd c2 d, fun _ => ⟨by omega, hX (oXs σ 0) (hR.thr 2)⟩⟩
    · unfold wp_X6_toHeap
      exact x6_isLot h7 (x6_isLot h7 (jnI ⟨fun d => absurd d c1, fun _ => x6_canHeap (by omega) ⟨fun _ => goes2 c1 rfl ⟨fun d => absurd rfl d, fun _ => hQ⟩, fun d => absurd c2 d⟩⟩))
  · refine sim_mut (n' := n) (z' := zBring (μ 0) j 3 (-1)) (v := zcnt (zBring (μ 0) j 3 (-1)) n 3) (BODY := fun σ9 Q => (∃ r10 : Nat, oF σ9 x 0 0 (.ref r10) ∧ (∃ w11 : MS × List Int32, σ9.2.1 r10 = some w11 ∧ wp_X2_toHeap (nI j) (w11.1, w11.2, σ9.2.2.1) (fun v14 s12 => ∀ σ13 : OS, σ13 = oHc σ9 r10 s12 → (Q v14 σ13))))) (OPM := fun σ8 Q => (wp_X6_brings (nI j) 3 ((-1)) σ8 (fun σ13 => (wp_X6_countIn 3 σ13 (fun v15 σ14 => (Q v15 σ14)))))) hR hκ (Nat.le_refl _) (fun Q X h => ?_) (fun Q h => ?_) (fun σ9 hA y L n9 f1 _ f2 f3 f4 f5 f6 Q hQ => ?_) (fun σ8 e8 Q hQ => ?_)
    · unfold wp_X1_toHeap
      refine ⟨hC, x1_needLot hF hH h1.lots hN (by omega) (fun _ => ⟨hA, hF, (y, L), hH, x2_canHeap (s := (y, L, σ.2.2.1)) qE h12 hj (fun σ5 e5 => ?_)⟩) (fun d => absurd d c1)⟩
      rw [oHc_same (w := (y, L)) hN hH] at e5
      rw [e5]
      exact ⟨fun _ => ⟨hC, h⟩, fun d => absurd d c2⟩
    · unfold wp_X6_toHeap
      exact x6_isLot h7 (x6_isLot h7 (jnI ⟨fun d => absurd d c1, fun _ => x6_canHeap (by omega) ⟨fun d => absurd d c2, fun _ => goesY c1 (by decide) ⟨fun _ => h, fun d => absurd d (by decide)⟩⟩⟩))
    · obtain rfl := h1.nn f3
      exact ⟨hA, f1, (y, L), f2, x2_toHeap (c := 0) (RK.of f3 (by omega)) f4 hj (canHeap_1 c2) (fun s' g1 g2 σ13 e13 => by rw [e13]; exact hQ s' g1.1 g2)⟩
    · refine x6_brings (by omega) (x6_countIn (n := n) ?_ h12 ?_)
      · rw [mZ_0, e8, zBring_sc (by decide) (by decide)]
        exact h7
      · rw [mZ_0, e8]
        exact hQ
theorem sim_load (hR : RO T x out σ.1 σ.2.1 μ) (hκ : σ.2.2.1 = 5000) (hN : σ.2.2.2.1 = 0) : Sim T x out (wp_X1_load x p σ) (wp_X6_load p μ) cd02 := by
  obtain ⟨hA, y, L, n, hF, hC, hH, h1, h2, h12, h7⟩ := hR.begin
  obtain ⟨q0, qE, qS, qG, qD, qB, qI⟩ := id h1
  by_cases c1 : lotV n p = 0
  · refine Or.inr ⟨0, 0, mU μ 5 3 1, by decide, fun Q X hX => ?_, fun Q hQ => ?_, mU_us⟩
    · unfold wp_X1_load
      exact ⟨hC, x1_needLot hF hH h1.lots hN (by omega) (fun d => absurd c1 d) (fun _ => hX (oXs σ 0) (hR.thr 1))⟩
    · unfold wp_X6_load
      exact x6_isLot h7 (x6_isLot h7 (jnI ⟨fun _ => goes1 c1 ⟨fun d => absurd rfl d, fun _ => hQ⟩, fun d => absurd c1 d⟩))
  obtain ⟨j, hj, rfl⟩ := lotV_j h12 c1
  have hlj := qI.2.1 j hj
  by_cases c2 : znoLoad (μ 0) n j = 0
  rotate_left
  · skip
    refine Or.inr ⟨2, 0, mU μ 5 3 2, by decide, fun Q X hX => ?_, fun Q hQ => ?_, mU_us⟩
    · unfold wp_X1_load
      refine ⟨hC, x1_needLot hF hH h1.lots hN (by omega) (fun _ => ⟨hA, hF, (y, L), hH, x2_whyNotLoad (s := (y, L, σ.2.2.1)) h1.lots qE q0.2.1 qI.2.2.1 h12 hj (fun σ5 e5 => ?_)⟩) (fun d => absurd d c1)⟩
      rw [oHc_same (w := (y, L)) hN hH] at e5
      rw [e5]
      exact jnI ⟨fun _ => ⟨fun d => absurd rfl d, fun _ => ⟨by omega, hX (oXs σ 0) (hR.thr 2)⟩⟩, fun d => absurd d c2⟩
    · unfold wp_X6_load
      exact x6_isLot h7 (x6_isLot h7 (jnI ⟨fun d => absurd d c1, fun _ => x6_noLoad h7 h12 hj ⟨fun _ => goes2 c1 rfl ⟨fun d => absurd rfl d, fun _ => hQ⟩, fun d => absurd d c2⟩⟩))
  · refine sim_mut (n' := n) (z' := zBring (μ 0) j 4 (-1)) (v := zwgt (zBring (μ 0) j 4 (-1)) n 4) (BODY := fun σ9 Q => (∃ r10 : Nat, oF σ9 x 0 0 (.ref r10) ∧ (∃ w11 : MS × List Int32, σ9.2.1 r10 = some w11 ∧ wp_X2_load (nI j) (w11.1, w11.2, σ9.2.2.1) (fun v14 s12 => ∀ σ13 : OS, σ13 = oHc σ9 r10 s12 → (Q v14 σ13))))) (OPM := fun σ8 Q => (wp_X6_brings (nI j) 4 ((-1)) σ8 (fun σ13 => (wp_X6_weightIn 4 σ13 (fun v15 σ14 => (Q v15 σ14)))))) hR hκ (Nat.le_refl _) (fun Q X h => ?_) (fun Q h => ?_) (fun σ9 hA y L n9 f1 _ f2 f3 f4 f5 f6 Q hQ => ?_) (fun σ8 e8 Q hQ => ?_)
    · unfold wp_X1_load
      refine ⟨hC, x1_needLot hF hH h1.lots hN (by omega) (fun _ => ⟨hA, hF, (y, L), hH, x2_whyNotLoad (s := (y, L, σ.2.2.1)) h1.lots qE q0.2.1 qI.2.2.1 h12 hj (fun σ5 e5 => ?_)⟩) (fun d => absurd d c1)⟩
      rw [oHc_same (w := (y, L)) hN hH] at e5
      rw [e5]
      exact jnI ⟨fun d => absurd c2 d, fun _ => ⟨fun _ => ⟨hC, h⟩, fun d => absurd d (by decide)⟩⟩
    · unfold wp_X6_load
      exact x6_isLot h7 (x6_isLot h7 (jnI ⟨fun d => absurd d c1, fun _ => x6_noLoad h7 h12 hj ⟨fun d => absurd c2 d, fun _ => goesY c1 (by decide) ⟨fun _ => h, fun d => absurd d (by decide)⟩⟩⟩))
    · obtain rfl := h1.nn f3
      exact ⟨hA, f1, (y, L), f2, x2_load (c := 0) (RK.of f3 (by omega)) f4 hj (noLoad_0 c2) (fun s' g1 g2 σ13 e13 => by rw [e13]; exact hQ s' g1.1 g2)⟩
    · refine x6_brings (by omega) (x6_weightIn (n := n) ?_ h12 ?_)
      · rw [mZ_0, e8, zBring_sc (by decide) (by decide)]
        exact h7
      · rw [mZ_0, e8]
        exact hQ
theorem sim_spray (hR : RO T x out σ.1 σ.2.1 μ) (hκ : σ.2.2.1 = 5000) (hN : σ.2.2.2.1 = 0) : Sim T x out (wp_X1_spray x p σ) (wp_X6_spray p μ) cd02 := by
  obtain ⟨hA, y, L, n, hF, hC, hH, h1, h2, h12, h7⟩ := hR.begin
  obtain ⟨q0, qE, qS, qG, qD, qB, qI⟩ := id h1
  by_cases c1 : lotV n p = 0
  · refine Or.inr ⟨0, 0, mU μ 5 3 1, by decide, fun Q X hX => ?_, fun Q hQ => ?_, mU_us⟩
    · unfold wp_X1_spray
      exact ⟨hC, x1_needLot hF hH h1.lots hN (by omega) (fun d => absurd c1 d) (fun _ => hX (oXs σ 0) (hR.thr 1))⟩
    · unfold wp_X6_spray
      exact x6_isLot h7 (x6_isLot h7 (jnI ⟨fun _ => goes1 c1 ⟨fun d => absurd rfl d, fun _ => hQ⟩, fun d => absurd c1 d⟩))
  obtain ⟨j, hj, rfl⟩ := lotV_j h12 c1
  have hlj := qI.2.1 j hj
  by_cases c2 : znoSpray (μ 0) j = 0
  rotate_left
  · skip
    refine Or.inr ⟨2, 0, mU μ 5 3 2, by decide, fun Q X hX => ?_, fun Q hQ => ?_, mU_us⟩
    · unfold wp_X1_spray
      refine ⟨hC, x1_needLot hF hH h1.lots hN (by omega) (fun _ => ⟨hA, hF, (y, L), hH, x2_whyNotSpray (s := (y, L, σ.2.2.1)) qE qD qS hlj q0.2.2.2.2.2.2.1 h12 hj (fun σ5 e5 => ?_)⟩) (fun d => absurd d c1)⟩
      rw [oHc_same (w := (y, L)) hN hH] at e5
      rw [e5]
      exact jnI ⟨fun _ => ⟨fun d => absurd rfl d, fun _ => ⟨by omega, hX (oXs σ 0) (hR.thr 2)⟩⟩, fun d => absurd d c2⟩
    · unfold wp_X6_spray
      exact x6_isLot h7 (x6_isLot h7 (jnI ⟨fun d => absurd d c1, fun _ => x6_noSpray h12 hj hlj.1 ⟨fun _ => goes2 c1 rfl ⟨fun d => absurd rfl d, fun _ => hQ⟩, fun d => absurd d c2⟩⟩))
  · refine sim_mut (n' := n) (z' := zWets (μ 0) j) (v := zWets (μ 0) j 6) (BODY := fun σ9 Q => (∃ r10 : Nat, oF σ9 x 0 0 (.ref r10) ∧ (∃ w11 : MS × List Int32, σ9.2.1 r10 = some w11 ∧ wp_X2_spray (nI j) (w11.1, w11.2, σ9.2.2.1) (fun v14 s12 => ∀ σ13 : OS, σ13 = oHc σ9 r10 s12 → (Q v14 σ13))))) (OPM := fun σ8 Q => (wp_X6_wets (nI j) σ8 (fun σ13 => (vp_in 6 (mLen 0) ∧ (Q (σ13 0 (6 : Int32).toNatClampNeg) σ13))))) hR hκ (Nat.le_refl _) (fun Q X h => ?_) (fun Q h => ?_) (fun σ9 hA y L n9 f1 _ f2 f3 f4 f5 f6 Q hQ => ?_) (fun σ8 e8 Q hQ => ?_)
    · unfold wp_X1_spray
      refine ⟨hC, x1_needLot hF hH h1.lots hN (by omega) (fun _ => ⟨hA, hF, (y, L), hH, x2_whyNotSpray (s := (y, L, σ.2.2.1)) qE qD qS hlj q0.2.2.2.2.2.2.1 h12 hj (fun σ5 e5 => ?_)⟩) (fun d => absurd d c1)⟩
      rw [oHc_same (w := (y, L)) hN hH] at e5
      rw [e5]
      exact jnI ⟨fun d => absurd c2 d, fun _ => ⟨fun _ => ⟨hC, h⟩, fun d => absurd d (by decide)⟩⟩
    · unfold wp_X6_spray
      exact x6_isLot h7 (x6_isLot h7 (jnI ⟨fun d => absurd d c1, fun _ => x6_noSpray h12 hj hlj.1 ⟨fun d => absurd c2 d, fun _ => goesY c1 (by decide) ⟨fun _ => h, fun d => absurd d (by decide)⟩⟩⟩))
    · obtain rfl := h1.nn f3
      exact ⟨hA, f1, (y, L), f2, x2_spray (c := 0) (RK.of f3 (by omega)) f4 hj (noSpray_0 c2) (fun s' g1 g2 σ13 e13 => by rw [e13]; exact hQ s' g1.1 g2)⟩
    · refine x6_wets (by omega) ?_
      rw [e8, zc6, mZ_0]
      exact ⟨zv6, hQ⟩
end SM
