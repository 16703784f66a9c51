set_option maxRecDepth 100000
/-! PLAIN: calls that change, 3; by program -/
section SM
variable {T T' x out n j : Nat} {σ : OS} {μ : MS} {z z' : Zz} {a b p p2 : Int32}
theorem rgV_or (p a b : Int32) : rgV p a b = 0 ∨ rgV p a b = 1 := by
  unfold rgV
  split
  · exact Or.inl rfl
  · split
    · exact Or.inl rfl
    · exact Or.inr rfl
theorem rgV_in (h : ¬ rgV p a b = 0) : a.toInt ≤ p.toInt ∧ p.toInt ≤ b.toInt := by
  unfold rgV at h
  by_cases c1 : p < a
  · rw [if_pos c1] at h; exact absurd rfl h
  · rw [if_neg c1] at h
    by_cases c2 : b < p
    · rw [if_pos c2] at h; exact absurd rfl h
    · rw [Int32.lt_iff_toInt_lt] at c1 c2
      omega
theorem sim_toDrum (hR : RO T x out σ.1 σ.2.1 μ) (hκ : σ.2.2.1 = 5000) (hN : σ.2.2.2.1 = 0) : Sim T x out (wp_X1_toDrum x p p2 σ) (wp_X6_toDrum p p2 μ) cd02 := by
  obtain ⟨hA, y, L, n, hF, hC, hH, h1, h2, h12, h7⟩ := hR.begin
  obtain ⟨q0, qE, qS, qG, qD, qB, qI⟩ := id h1
  by_cases c1 : lotV n p = 0
  · refine Or.inr ⟨0, 0, mU μ 5 3 1, by decide, fun Q X hX => ?_, fun Q hQ => ?_, mU_us⟩
    · unfold wp_X1_toDrum
      exact ⟨hC, x1_needLot hF hH h1.lots hN (by omega) (fun d => absurd c1 d) (fun _ => hX (oXs σ 0) (hR.thr 1))⟩
    · unfold wp_X6_toDrum
      exact x6_isLot h7 (jnI ⟨fun _ => jnI ⟨fun _ => goes1 rfl ⟨fun d => absurd rfl d, fun _ => hQ⟩, fun d => absurd rfl d⟩, fun d => absurd c1 d⟩)
  obtain ⟨j, hj, rfl⟩ := lotV_j h12 c1
  have hlj := qI.2.1 j hj
  by_cases c3 : drmV p2 = 0
  · refine Or.inr ⟨0, 0, mU μ 5 3 1, by decide, fun Q X hX => ?_, fun Q hQ => ?_, mU_us⟩
    · unfold wp_X1_toDrum
      exact ⟨hC, x1_needLot hF hH h1.lots hN (by omega) (fun _ => x1_isDrum ⟨fun d => absurd c3 d, fun _ => ⟨by omega, hX (oXs σ 0) (hR.thr 1)⟩⟩) (fun d => absurd d c1)⟩
    · unfold wp_X6_toDrum
      exact x6_isLot h7 (jnI ⟨fun d => absurd d c1, fun _ => x6_isDrum ⟨fun _ => jnI ⟨fun _ => goes1 rfl ⟨fun d => absurd rfl d, fun _ => hQ⟩, fun d => absurd rfl d⟩, fun d => absurd c3 d⟩⟩)
  obtain ⟨d, hd, rfl⟩ := drmV_j c3
  by_cases c2 : znoDrum (μ 0) n j (nI d) = 0
  rotate_left
  · refine Or.inr ⟨2, 0, mU μ 5 3 2, by decide, fun Q X hX => ?_, fun Q hQ => ?_, mU_us⟩
    · unfold wp_X1_toDrum
      refine ⟨hC, x1_needLot hF hH h1.lots hN (by omega) (fun _ => x1_isDrum ⟨fun _ => ⟨hA, hF, (y, L), hH, x2_whyNotDrum (s := (y, L, σ.2.2.1)) qE qD h12 hj hd (fun σ5 e5 => ?_)⟩, fun d => absurd d c3⟩) (fun d => absurd d c1)⟩
      rw [oHc_same (w := (y, L)) hN hH] at e5
      rw [e5]
      exact jnI ⟨fun _ => ⟨fun d => absurd rfl d, fun _ => ⟨by omega, hX (oXs σ 0) (hR.thr 2)⟩⟩, fun d => absurd d c2⟩
    · unfold wp_X6_toDrum
      exact x6_isLot h7 (jnI ⟨fun d => absurd d c1, fun _ => x6_isDrum ⟨fun d => absurd d c3, fun _ => jnI ⟨fun d => absurd d (by decide), fun _ => x6_noDrum h7 h12 hj ⟨fun _ => goes2 (by decide) rfl ⟨fun d => absurd rfl d, fun _ => hQ⟩, fun d => absurd d c2⟩⟩⟩⟩)
  · obtain ⟨k1, k2⟩ := noDrum_0 c2
    refine sim_mut (n' := n) (z' := zBring (μ 0) j 2 (nI d)) (v := ofz (zBring (μ 0) j 2 (nI d)) j 4) (BODY := fun σ9 Q => (∃ r10 : Nat, oF σ9 x 0 0 (.ref r10) ∧ (∃ w11 : MS × List Int32, σ9.2.1 r10 = some w11 ∧ wp_X2_toDrum (nI j) (nI d) (w11.1, w11.2, σ9.2.2.1) (fun v14 s12 => ∀ σ13 : OS, σ13 = oHc σ9 r10 s12 → (Q v14 σ13))))) (OPM := fun σ8 Q => (wp_X6_brings (nI j) 2 (nI d) σ8 (fun σ14 => (wp_X6_of (nI j) 4 σ14 (fun v16 σ15 => (Q v16 σ15)))))) hR hκ (Nat.le_refl _) (fun Q X h => ?_) (fun Q h => ?_) (fun σ9 hA y L n9 f1 _ f2 f3 f4 f5 f6 Q hQ => ?_) (fun σ8 e8 Q hQ => ?_)
    · unfold wp_X1_toDrum
      refine ⟨hC, x1_needLot hF hH h1.lots hN (by omega) (fun _ => x1_isDrum ⟨fun _ => ⟨hA, hF, (y, L), hH, x2_whyNotDrum (s := (y, L, σ.2.2.1)) qE qD h12 hj hd (fun σ5 e5 => ?_)⟩, fun d => absurd d c3⟩) (fun d => absurd d c1)⟩
      rw [oHc_same (w := (y, L)) hN hH] at e5
      rw [e5]
      exact jnI ⟨fun d => absurd c2 d, fun _ => ⟨fun _ => ⟨hC, h⟩, fun d => absurd d (by decide)⟩⟩
    · unfold wp_X6_toDrum
      exact x6_isLot h7 (jnI ⟨fun d => absurd d c1, fun _ => x6_isDrum ⟨fun d => absurd d c3, fun _ => jnI ⟨fun d => absurd d (by decide), fun _ => x6_noDrum h7 h12 hj ⟨fun d => absurd c2 d, fun _ => goesY (by decide) (by decide) ⟨fun _ => h, fun d => absurd d (by decide)⟩⟩⟩⟩⟩)
    · obtain rfl := h1.nn f3
      refine ⟨hA, f1, (y, L), f2, x2_toDrum (c := 0) (RK.of f3 (by omega)) f4 hj hd k1 ?_ (fun s' g1 g2 σ13 e13 => by rw [e13]; exact hQ s' g1.1 g2)⟩
      exact (zind_eq f3.2.2.2.2.1 h12 hd).symm.trans k2
    · refine x6_brings (by omega) (x6_of1 (w := 4) (by omega) (by decide) ?_)
      rw [mZ_0, e8]
      exact hQ
theorem sim_light (hR : RO T x out σ.1 σ.2.1 μ) (hκ : σ.2.2.1 = 5000) (hN : σ.2.2.2.1 = 0) : Sim T x out (wp_X1_light x σ) (wp_X6_light μ) cd2 := by
  obtain ⟨hA, y, L, n, hF, hC, hH, h1, h2, h12, h7⟩ := hR.begin
  obtain ⟨q0, qE, qS, qG, qD, qB, qI⟩ := id h1
  by_cases c1 : zcanLight (μ 0) n = 0
  · refine Or.inr ⟨2, 0, mU μ 5 3 1, by decide, fun Q X hX => ?_, fun Q hQ => ?_, mU_us⟩
    · unfold wp_X1_light
      refine ⟨hA, hF, (y, L), hH, x2_canLight (s := (y, L, σ.2.2.1)) h1.lots qE q0.2.1 h12 (fun σ5 e5 => ?_)⟩
      rw [oHc_same (w := (y, L)) hN hH] at e5
      rw [e5]
      exact ⟨fun d => absurd c1 d, fun _ => ⟨by omega, hX (oXs σ 0) (hR.thr 1)⟩⟩
    · unfold wp_X6_light
      exact x6_canLight h7 h12 (goes1 c1 ⟨fun d => absurd rfl d, fun _ => hQ⟩)
  · obtain ⟨k1, k2⟩ := canLight_1 c1
    refine sim_mut (n' := n) (z' := upd (μ 0) 1 1) (v := zcnt (upd (μ 0) 1 1) n 4) (BODY := fun σ9 Q => (∃ r10 : Nat, oF σ9 x 0 0 (.ref r10) ∧ (∃ w11 : MS × List Int32, σ9.2.1 r10 = some w11 ∧ wp_X2_light (w11.1, w11.2, σ9.2.2.1) (fun v14 s12 => ∀ σ13 : OS, σ13 = oHc σ9 r10 s12 → (Q v14 σ13))))) (OPM := fun σ8 Q => (vp_in 1 (mLen 0) ∧ ∀ σ7 : MS, σ7 = mU σ8 0 (1 : Int32).toNatClampNeg 1 → (wp_X6_countIn 4 σ7 (fun v9 σ8 => (Q v9 σ8))))) hR hκ (Nat.le_refl _) (fun Q X h => ?_) (fun Q h => ?_) (fun σ9 hA y L n9 f1 _ f2 f3 f4 f5 f6 Q hQ => ?_) (fun σ8 e8 Q hQ => ?_)
    · unfold wp_X1_light
      refine ⟨hA, hF, (y, L), hH, x2_canLight (s := (y, L, σ.2.2.1)) h1.lots qE q0.2.1 h12 (fun σ5 e5 => ?_)⟩
      rw [oHc_same (w := (y, L)) hN hH] at e5
      rw [e5]
      exact ⟨fun _ => ⟨hC, h⟩, fun d => absurd d c1⟩
    · unfold wp_X6_light
      exact x6_canLight h7 h12 (goesY c1 (by decide) ⟨fun _ => h, fun d => absurd d (by decide)⟩)
    · obtain rfl := h1.nn f3
      exact ⟨hA, f1, (y, L), f2, x2_light (c := 0) (RK.of f3 (by omega)) k1 k2 (fun s' g1 g2 σ13 e13 => by rw [e13]; exact hQ s' g1.1 g2)⟩
    · refine ⟨zv1, fun σ7 e7 => ?_⟩
      rw [zc1, mU_mZ, e8] at e7
      subst e7
      refine x6_countIn (n := n) ?_ h12 ?_
      · rw [mZ_0, pk_un (by decide)]; exact h7
      · rw [mZ_0]; exact hQ
theorem zset_in {w : Nat} (hw : w < 3) {d : Nat} (hd : d < 4) : vp_in ((32 + (3 * nI d)) + nI w) (mLen 0) ∧ ((32 + (3 * nI d)) + nI w).toNatClampNeg = 32 + 3 * d + w := si d w hd hw
theorem sim_setAir (hR : RO T x out σ.1 σ.2.1 μ) (hκ : σ.2.2.1 = 5000) : Sim T x out (wp_X1_setAir x p p2 σ) (wp_X6_setAir p p2 μ) cd03 := by
  obtain ⟨hA, y, L, n, hF, hC, hH, h1, h2, h12, h7⟩ := hR.begin
  by_cases c1 : drmV p = 0
  · refine Or.inr ⟨0, 0, mU μ 5 3 1, by decide, fun Q X hX => ?_, fun Q hQ => ?_, mU_us⟩
    · unfold wp_X1_setAir
      exact x1_isDrum ⟨fun d => absurd c1 d, fun _ => ⟨by omega, hX (oXs σ 0) (hR.thr 1)⟩⟩
    · unfold wp_X6_setAir wp_X6_changes
      exact x6_isDrum (x6_in (goes1 c1 ⟨fun d => absurd rfl d, fun _ => hQ⟩))
  obtain ⟨d, hd, rfl⟩ := drmV_j c1
  by_cases c2 : rgV p2 0 3 = 0
  · refine Or.inr ⟨1, 0, mU μ 5 3 2, by decide, fun Q X hX => ?_, fun Q hQ => ?_, mU_us⟩
    · unfold wp_X1_setAir
      exact x1_isDrum ⟨fun _ => x1_in ⟨fun d => absurd c2 d, fun _ => ⟨by omega, hX (oXs σ 0) (hR.thr 2)⟩⟩, fun d => absurd d c1⟩
    · unfold wp_X6_setAir wp_X6_changes
      exact x6_isDrum (x6_in (goes2 c1 c2 ⟨fun d => absurd rfl d, fun _ => hQ⟩))
  · have hp := rgV_in c2
    have l0 : (0 : Int32).toInt = 0 := by decide
    have l3 : (3 : Int32).toInt = 3 := by decide
    obtain ⟨i1, i2⟩ := zset_in (w := 0) (by decide) hd
    refine sim_mut (n' := n) (z' := upd (μ 0) (32 + 3 * d + 0) p2) (v := μ 0 (32 + 3 * d + 0)) (BODY := fun σ4 Q => (∃ r5 : Nat, oF σ4 x 0 0 (.ref r5) ∧ (∃ w6 : MS × List Int32, σ4.2.1 r5 = some w6 ∧ (∃ w7 : MS × List Int32, σ4.2.1 r5 = some w7 ∧ vp_in (nI d) 4 ∧ (∃ w8 : MS × List Int32, σ4.2.1 r5 = some w8 ∧ ((nI d).toNatClampNeg) < 4 ∧ (∀ x9 : Int32, x9 = w8.1 8 ((nI d).toNatClampNeg) → (∃ r10 : Nat, oF σ4 x 0 0 (.ref r10) ∧ (∃ w11 : MS × List Int32, σ4.2.1 r10 = some w11 ∧ (∃ w12 : MS × List Int32, σ4.2.1 r10 = some w12 ∧ vp_in (nI d) 4 ∧ (∃ w14 : MS × List Int32, σ4.2.1 r10 = some w14 ∧ ((nI d).toNatClampNeg) < 4 ∧ ∀ σ13 : OS, σ13 = (oHc σ4 r10 (hU (w14.1, w14.2, σ4.2.2.1) (7 + 1) ((nI d).toNatClampNeg) p2)) → (Q x9 σ13))))))))))) (OPM := fun σ6 Q => (vp_in ((32 + (3 * nI d)) + 0) (mLen 0) ∧ (∀ x7 : Int32, x7 = σ6 0 ((32 + (3 * nI d)) + 0).toNatClampNeg → (vp_in ((32 + (3 * nI d)) + 0) (mLen 0) ∧ ∀ σ8 : MS, σ8 = mU σ6 0 ((32 + (3 * nI d)) + 0).toNatClampNeg p2 → (Q x7 σ8))))) hR hκ (Nat.le_refl _) (fun Q X h => ?_) (fun Q h => ?_) (fun σ9 hA y L n9 f1 _ f2 f3 f4 f5 f6 Q hQ => ?_) (fun σ8 e8 Q hQ => ?_)
    · unfold wp_X1_setAir
      exact x1_isDrum ⟨fun _ => x1_in ⟨fun _ => ⟨hC, h⟩, fun d => absurd d c2⟩, fun d => absurd d c1⟩
    · unfold wp_X6_setAir wp_X6_changes
      exact x6_isDrum (x6_in (goesY c1 c2 ⟨fun _ => h, fun d => absurd d (by decide)⟩))
    · obtain rfl := h1.nn f3
      rw [cd hd]
      refine ⟨hA, f1, (y, L), f2, (y, L), f2, vd hd, (y, L), f2, hd, fun x9 e9 => ⟨hA, f1, (y, L), f2, (y, L), f2, vd hd, (y, L), f2, hd, fun σ13 e13 => ?_⟩⟩
      have e10 : x9 = μ 0 (32 + 3 * d + 0) := e9.trans (f3.2.2.1 d hd).1
      rw [e10, e13]
      exact hQ _ (RK_set (c := 0) (RK.of f3 (κ := σ9.2.2.1) (by omega)) hd (w := 0) (by decide) (by omega)).1 (fun q => by
        rw [pk_un (by omega)] at q
        obtain ⟨k, hk, e⟩ := f4 q
        exact ⟨k, hk, (ofz_sc (by omega)).trans e⟩)
    · refine ⟨i1, fun x7 e7 => ⟨i1, fun s8 es8 => ?_⟩⟩
      have i3 : ((32 + (3 * nI d)) + 0).toNatClampNeg = 32 + 3 * d + 0 := i2
      rw [i3, e8] at e7
      rw [i3, mU_mZ, e8] at es8
      rw [e7, es8]
      exact hQ
theorem sim_setDew (hR : RO T x out σ.1 σ.2.1 μ) (hκ : σ.2.2.1 = 5000) : Sim T x out (wp_X1_setDew x p p2 σ) (wp_X6_setDew p p2 μ) cd03 := by
  obtain ⟨hA, y, L, n, hF, hC, hH, h1, h2, h12, h7⟩ := hR.begin
  by_cases c1 : drmV p = 0
  · refine Or.inr ⟨0, 0, mU μ 5 3 1, by decide, fun Q X hX => ?_, fun Q hQ => ?_, mU_us⟩
    · unfold wp_X1_setDew
      exact x1_isDrum ⟨fun d => absurd c1 d, fun _ => ⟨by omega, hX (oXs σ 0) (hR.thr 1)⟩⟩
    · unfold wp_X6_setDew wp_X6_changes
      exact x6_isDrum (x6_in (goes1 c1 ⟨fun d => absurd rfl d, fun _ => hQ⟩))
  obtain ⟨d, hd, rfl⟩ := drmV_j c1
  by_cases c2 : rgV p2 0 3 = 0
  · refine Or.inr ⟨1, 0, mU μ 5 3 2, by decide, fun Q X hX => ?_, fun Q hQ => ?_, mU_us⟩
    · unfold wp_X1_setDew
      exact x1_isDrum ⟨fun _ => x1_in ⟨fun d => absurd c2 d, fun _ => ⟨by omega, hX (oXs σ 0) (hR.thr 2)⟩⟩, fun d => absurd d c1⟩
    · unfold wp_X6_setDew wp_X6_changes
      exact x6_isDrum (x6_in (goes2 c1 c2 ⟨fun d => absurd rfl d, fun _ => hQ⟩))
  · have hp := rgV_in c2
    have l0 : (0 : Int32).toInt = 0 := by decide
    have l3 : (3 : Int32).toInt = 3 := by decide
    obtain ⟨i1, i2⟩ := zset_in (w := 1) (by decide) hd
    refine sim_mut (n' := n) (z' := upd (μ 0) (32 + 3 * d + 1) p2) (v := μ 0 (32 + 3 * d + 1)) (BODY := fun σ4 Q => (∃ r5 : Nat, oF σ4 x 0 0 (.ref r5) ∧ (∃ w6 : MS × List Int32, σ4.2.1 r5 = some w6 ∧ (∃ w7 : MS × List Int32, σ4.2.1 r5 = some w7 ∧ vp_in (nI d) 4 ∧ (∃ w8 : MS × List Int32, σ4.2.1 r5 = some w8 ∧ ((nI d).toNatClampNeg) < 4 ∧ (∀ x9 : Int32, x9 = w8.1 9 ((nI d).toNatClampNeg) → (∃ r10 : Nat, oF σ4 x 0 0 (.ref r10) ∧ (∃ w11 : MS × List Int32, σ4.2.1 r10 = some w11 ∧ (∃ w12 : MS × List Int32, σ4.2.1 r10 = some w12 ∧ vp_in (nI d) 4 ∧ (∃ w14 : MS × List Int32, σ4.2.1 r10 = some w14 ∧ ((nI d).toNatClampNeg) < 4 ∧ ∀ σ13 : OS, σ13 = (oHc σ4 r10 (hU (w14.1, w14.2, σ4.2.2.1) (7 + 2) ((nI d).toNatClampNeg) p2)) → (Q x9 σ13))))))))))) (OPM := fun σ6 Q => (vp_in ((32 + (3 * nI d)) + 1) (mLen 0) ∧ (∀ x7 : Int32, x7 = σ6 0 ((32 + (3 * nI d)) + 1).toNatClampNeg → (vp_in ((32 + (3 * nI d)) + 1) (mLen 0) ∧ ∀ σ8 : MS, σ8 = mU σ6 0 ((32 + (3 * nI d)) + 1).toNatClampNeg p2 → (Q x7 σ8))))) hR hκ (Nat.le_refl _) (fun Q X h => ?_) (fun Q h => ?_) (fun σ9 hA y L n9 f1 _ f2 f3 f4 f5 f6 Q hQ => ?_) (fun σ8 e8 Q hQ => ?_)
    · unfold wp_X1_setDew
      exact x1_isDrum ⟨fun _ => x1_in ⟨fun _ => ⟨hC, h⟩, fun d => absurd d c2⟩, fun d => absurd d c1⟩
    · unfold wp_X6_setDew wp_X6_changes
      exact x6_isDrum (x6_in (goesY c1 c2 ⟨fun _ => h, fun d => absurd d (by decide)⟩))
    · obtain rfl := h1.nn f3
      rw [cd hd]
      refine ⟨hA, f1, (y, L), f2, (y, L), f2, vd hd, (y, L), f2, hd, fun x9 e9 => ⟨hA, f1, (y, L), f2, (y, L), f2, vd hd, (y, L), f2, hd, fun σ13 e13 => ?_⟩⟩
      have e10 : x9 = μ 0 (32 + 3 * d + 1) := e9.trans (f3.2.2.1 d hd).2.1
      rw [e10, e13]
      exact hQ _ (RK_set (c := 0) (RK.of f3 (κ := σ9.2.2.1) (by omega)) hd (w := 1) (by decide) (by omega)).1 (fun q => by
        rw [pk_un (by omega)] at q
        obtain ⟨k, hk, e⟩ := f4 q
        exact ⟨k, hk, (ofz_sc (by omega)).trans e⟩)
    · refine ⟨i1, fun x7 e7 => ⟨i1, fun s8 es8 => ?_⟩⟩
      have i3 : ((32 + (3 * nI d)) + 1).toNatClampNeg = 32 + 3 * d + 1 := i2
      rw [i3, e8] at e7
      rw [i3, mU_mZ, e8] at es8
      rw [e7, es8]
      exact hQ
theorem sim_setTurn (hR : RO T x out σ.1 σ.2.1 μ) (hκ : σ.2.2.1 = 5000) : Sim T x out (wp_X1_setTurn x p p2 σ) (wp_X6_setTurn p p2 μ) cd03 := by
  obtain ⟨hA, y, L, n, hF, hC, hH, h1, h2, h12, h7⟩ := hR.begin
  by_cases c1 : drmV p = 0
  · refine Or.inr ⟨0, 0, mU μ 5 3 1, by decide, fun Q X hX => ?_, fun Q hQ => ?_, mU_us⟩
    · unfold wp_X1_setTurn
      exact x1_isDrum ⟨fun d => absurd c1 d, fun _ => ⟨by omega, hX (oXs σ 0) (hR.thr 1)⟩⟩
    · unfold wp_X6_setTurn wp_X6_changes
      exact x6_isDrum (x6_in (goes1 c1 ⟨fun d => absurd rfl d, fun _ => hQ⟩))
  obtain ⟨d, hd, rfl⟩ := drmV_j c1
  by_cases c2 : rgV p2 0 3 = 0
  · refine Or.inr ⟨1, 0, mU μ 5 3 2, by decide, fun Q X hX => ?_, fun Q hQ => ?_, mU_us⟩
    · unfold wp_X1_setTurn
      exact x1_isDrum ⟨fun _ => x1_in ⟨fun d => absurd c2 d, fun _ => ⟨by omega, hX (oXs σ 0) (hR.thr 2)⟩⟩, fun d => absurd d c1⟩
    · unfold wp_X6_setTurn wp_X6_changes
      exact x6_isDrum (x6_in (goes2 c1 c2 ⟨fun d => absurd rfl d, fun _ => hQ⟩))
  · have hp := rgV_in c2
    have l0 : (0 : Int32).toInt = 0 := by decide
    have l3 : (3 : Int32).toInt = 3 := by decide
    obtain ⟨i1, i2⟩ := zset_in (w := 2) (by decide) hd
    refine sim_mut (n' := n) (z' := upd (μ 0) (32 + 3 * d + 2) p2) (v := μ 0 (32 + 3 * d + 2)) (BODY := fun σ4 Q => (∃ r5 : Nat, oF σ4 x 0 0 (.ref r5) ∧ (∃ w6 : MS × List Int32, σ4.2.1 r5 = some w6 ∧ (∃ w7 : MS × List Int32, σ4.2.1 r5 = some w7 ∧ vp_in (nI d) 4 ∧ (∃ w8 : MS × List Int32, σ4.2.1 r5 = some w8 ∧ ((nI d).toNatClampNeg) < 4 ∧ (∀ x9 : Int32, x9 = w8.1 10 ((nI d).toNatClampNeg) → (∃ r10 : Nat, oF σ4 x 0 0 (.ref r10) ∧ (∃ w11 : MS × List Int32, σ4.2.1 r10 = some w11 ∧ (∃ w12 : MS × List Int32, σ4.2.1 r10 = some w12 ∧ vp_in (nI d) 4 ∧ (∃ w14 : MS × List Int32, σ4.2.1 r10 = some w14 ∧ ((nI d).toNatClampNeg) < 4 ∧ ∀ σ13 : OS, σ13 = (oHc σ4 r10 (hU (w14.1, w14.2, σ4.2.2.1) (7 + 3) ((nI d).toNatClampNeg) p2)) → (Q x9 σ13))))))))))) (OPM := fun σ6 Q => (vp_in ((32 + (3 * nI d)) + 2) (mLen 0) ∧ (∀ x7 : Int32, x7 = σ6 0 ((32 + (3 * nI d)) + 2).toNatClampNeg → (vp_in ((32 + (3 * nI d)) + 2) (mLen 0) ∧ ∀ σ8 : MS, σ8 = mU σ6 0 ((32 + (3 * nI d)) + 2).toNatClampNeg p2 → (Q x7 σ8))))) hR hκ (Nat.le_refl _) (fun Q X h => ?_) (fun Q h => ?_) (fun σ9 hA y L n9 f1 _ f2 f3 f4 f5 f6 Q hQ => ?_) (fun σ8 e8 Q hQ => ?_)
    · unfold wp_X1_setTurn
      exact x1_isDrum ⟨fun _ => x1_in ⟨fun _ => ⟨hC, h⟩, fun d => absurd d c2⟩, fun d => absurd d c1⟩
    · unfold wp_X6_setTurn wp_X6_changes
      exact x6_isDrum (x6_in (goesY c1 c2 ⟨fun _ => h, fun d => absurd d (by decide)⟩))
    · obtain rfl := h1.nn f3
      rw [cd hd]
      refine ⟨hA, f1, (y, L), f2, (y, L), f2, vd hd, (y, L), f2, hd, fun x9 e9 => ⟨hA, f1, (y, L), f2, (y, L), f2, vd hd, (y, L), f2, hd, fun σ13 e13 => ?_⟩⟩
      have e10 : x9 = μ 0 (32 + 3 * d + 2) := e9.trans (f3.2.2.1 d hd).2.2
      rw [e10, e13]
      exact hQ _ (RK_set (c := 0) (RK.of f3 (κ := σ9.2.2.1) (by omega)) hd (w := 2) (by decide) (by omega)).1 (fun q => by
        rw [pk_un (by omega)] at q
        obtain ⟨k, hk, e⟩ := f4 q
        exact ⟨k, hk, (ofz_sc (by omega)).trans e⟩)
    · refine ⟨i1, fun x7 e7 => ⟨i1, fun s8 es8 => ?_⟩⟩
      have i3 : ((32 + (3 * nI d)) + 2).toNatClampNeg = 32 + 3 * d + 2 := i2
      rw [i3, e8] at e7
      rw [i3, mU_mZ, e8] at es8
      rw [e7, es8]
      exact hQ
theorem sim_setHeats (hR : RO T x out σ.1 σ.2.1 μ) (hκ : σ.2.2.1 = 5000) : Sim T x out (wp_X1_setHeats x p p2 σ) (wp_X6_setHeats p p2 μ) cd01 := by
  obtain ⟨hA, y, L, n, hF, hC, hH, h1, h2, h12, h7⟩ := hR.begin
  have e3 : y 11 3 = μ 0 1 := h1.1.2.1
  by_cases c1 : rgV p 30 60 = 0
  · refine Or.inr ⟨1, 0, mU μ 5 3 1, by decide, fun Q X hX => ?_, fun Q hQ => ?_, mU_us⟩
    · unfold wp_X1_setHeats
      exact x1_in (jnI ⟨fun _ => ⟨fun d => absurd rfl d, fun _ => ⟨by omega, hX (oXs σ 0) (hR.thr 1)⟩⟩, fun d => absurd c1 d⟩)
    · unfold wp_X6_setHeats
      refine x6_in (jnI ⟨fun _ => ⟨zv1, jnI ⟨fun _ => goes1 rfl ⟨fun d => absurd rfl d, fun _ => hQ⟩, fun _ => goes1 rfl ⟨fun d => absurd rfl d, fun _ => hQ⟩⟩⟩, fun d => absurd c1 d⟩)
  by_cases c2 : rgV p2 60 99 = 0
  · refine Or.inr ⟨1, 0, mU μ 5 3 1, by decide, fun Q X hX => ?_, fun Q hQ => ?_, mU_us⟩
    · unfold wp_X1_setHeats
      exact x1_in (jnI ⟨fun d => absurd d c1, fun _ => x1_in ⟨fun _ => ⟨fun d => absurd rfl d, fun _ => ⟨by omega, hX (oXs σ 0) (hR.thr 1)⟩⟩, fun d => absurd c2 d⟩⟩)
    · unfold wp_X6_setHeats
      refine x6_in (jnI ⟨fun d => absurd d c1, fun _ => x6_in ⟨fun _ => ⟨zv1, jnI ⟨fun _ => goes1 rfl ⟨fun d => absurd rfl d, fun _ => hQ⟩, fun _ => goes1 rfl ⟨fun d => absurd rfl d, fun _ => hQ⟩⟩⟩, fun d => absurd c2 d⟩⟩)
  by_cases c3 : μ 0 1 = 0
  rotate_left
  · refine Or.inr ⟨2, 0, mU μ 5 3 2, by decide, fun Q X hX => ?_, fun Q hQ => ?_, mU_us⟩
    · unfold wp_X1_setHeats
      refine x1_in (jnI ⟨fun d => absurd d c1, fun _ => x1_in ⟨fun d => absurd d c2, fun _ => ⟨fun _ => ⟨hA, hF, (y, L), hH, jnI ⟨fun _ => ⟨fun d => absurd rfl d, fun _ => ⟨by omega, hX (oXs σ 0) (hR.thr 2)⟩⟩, fun d => ?_⟩⟩, fun d => absurd d (by decide)⟩⟩⟩)
      exact absurd (e3.symm.trans d) c3
    · unfold wp_X6_setHeats
      rw [zc1]
      exact x6_in (jnI ⟨fun d => absurd d c1, fun _ => x6_in ⟨fun d => absurd d c2, fun _ => ⟨zv1, jnI ⟨fun _ => goes2 (by decide) rfl ⟨fun d => absurd rfl d, fun _ => hQ⟩, fun d => absurd d c3⟩⟩⟩⟩)
  · have hp := rgV_in c1
    have hq := rgV_in c2
    have l30 : (30 : Int32).toInt = 30 := by decide
    have l60 : (60 : Int32).toInt = 60 := by decide
    have l99 : (99 : Int32).toInt = 99 := by decide
    refine sim_mut (n' := n) (z' := upd (upd (μ 0) 3 p) 4 p2) (v := 100 * μ 0 3 + μ 0 4) (BODY := fun σ12 Q => (∃ r13 : Nat, oF σ12 x 0 0 (.ref r13) ∧ (∃ w14 : MS × List Int32, σ12.2.1 r13 = some w14 ∧ (∃ r15 : Nat, oF σ12 x 0 0 (.ref r15) ∧ (∃ w16 : MS × List Int32, σ12.2.1 r15 = some w16 ∧ (∀ x17 : Int32, x17 = (100 * (w14.1 11 5)) + (w16.1 11 6) → (∃ r18 : Nat, oF σ12 x 0 0 (.ref r18) ∧ (∃ w20 : MS × List Int32, σ12.2.1 r18 = some w20 ∧ ∀ σ19 : OS, σ19 = oHc σ12 r18 (hU (w20.1, w20.2, σ12.2.2.1) 11 5 p) → (∃ r21 : Nat, oF σ19 x 0 0 (.ref r21) ∧ (∃ w23 : MS × List Int32, σ19.2.1 r21 = some w23 ∧ ∀ σ22 : OS, σ22 = oHc σ19 r21 (hU (w23.1, w23.2, σ19.2.2.1) 11 6 p2) → (Q x17 σ22))))))))))) (OPM := fun σ11 Q => (vp_in 3 (mLen 0) ∧ (vp_in 4 (mLen 0) ∧ (∀ x12 : Int32, x12 = (100 * (σ11 0 (3 : Int32).toNatClampNeg)) + (σ11 0 (4 : Int32).toNatClampNeg) → (vp_in 3 (mLen 0) ∧ ∀ σ13 : MS, σ13 = mU σ11 0 (3 : Int32).toNatClampNeg p → (vp_in 4 (mLen 0) ∧ ∀ σ14 : MS, σ14 = mU σ13 0 (4 : Int32).toNatClampNeg p2 → (Q x12 σ14))))))) hR hκ (Nat.le_refl _) (fun Q X h => ?_) (fun Q h => ?_) (fun σ9 hA y L n9 f1 _ f2 f3 f4 f5 f6 Q hQ => ?_) (fun σ8 e8 Q hQ => ?_)
    · unfold wp_X1_setHeats
      refine x1_in (jnI ⟨fun d => absurd d c1, fun _ => x1_in ⟨fun d => absurd d c2, fun _ => ⟨fun _ => ⟨hA, hF, (y, L), hH, jnI ⟨fun d => ?_, fun _ => ⟨fun _ => ⟨hC, h⟩, fun d => absurd d (by decide)⟩⟩⟩, fun d => absurd d (by decide)⟩⟩⟩)
      exact absurd (e3.trans c3) d
    · unfold wp_X6_setHeats
      rw [zc1]
      exact x6_in (jnI ⟨fun d => absurd d c1, fun _ => x6_in ⟨fun d => absurd d c2, fun _ => ⟨zv1, jnI ⟨fun d => absurd c3 d, fun _ => goesY (by decide) (by decide) ⟨fun _ => h, fun d => absurd d (by decide)⟩⟩⟩⟩⟩)
    · obtain rfl := h1.nn f3
      refine ⟨hA, f1, (y, L), f2, hA, f1, (y, L), f2, fun x17 e17 => ⟨hA, f1, (y, L), f2, fun σ19 e19 => ?_⟩⟩
      have e18 : x17 = 100 * μ 0 3 + μ 0 4 := by
        rw [e17]
        show 100 * y 11 5 + y 11 6 = _
        rw [f3.1.2.2.2.1, f3.1.2.2.2.2.1]
      subst e19
      refine ⟨hA, f1, (mU y 11 5 p, L), if_pos rfl, fun σ22 e22 => ?_⟩
      have e23 : σ22 = oHc σ9 hA (mU (mU y 11 5 p) 11 6 p2, L, σ9.2.2.1) := by
        rw [e22]
        unfold oHc hU
        dsimp only
        congr 2
        funext q
        by_cases c : q = hA
        · rw [if_pos c, if_pos c]
        · rw [if_neg c, if_neg c, if_neg c]
      rw [e18, e23]
      exact hQ _ (RK_heats (c := 0) (RK.of f3 (κ := σ9.2.2.1) (by omega)) (by omega) (by omega)).1 (fun q => by
        rw [pk_un (by decide), pk_un (by decide)] at q
        obtain ⟨k, hk, e⟩ := f4 q
        exact ⟨k, hk, (ofz_sc (by decide)).trans ((ofz_sc (by decide)).trans e)⟩)
    · rw [zc3, zc4, e8]
      refine ⟨zv3, zv4, fun x12 e12 => ⟨zv3, fun σ13 e13 => ⟨zv4, fun σ14 e14 => ?_⟩⟩⟩
      rw [mU_mZ, e8] at e13
      subst e13
      rw [mU_mZ2] at e14
      rw [e12, e14]
      exact hQ
theorem sim_setSprays (hR : RO T x out σ.1 σ.2.1 μ) (hκ : σ.2.2.1 = 5000) : Sim T x out (wp_X1_setSprays x p σ) (wp_X6_setSprays p μ) cd1 := by
  obtain ⟨hA, y, L, n, hF, hC, hH, h1, h2, h12, h7⟩ := hR.begin
  by_cases c1 : rgV p 0 9 = 0
  · refine Or.inr ⟨1, 0, mU μ 5 3 1, by decide, fun Q X hX => ?_, fun Q hQ => ?_, mU_us⟩
    · unfold wp_X1_setSprays
      exact x1_in ⟨fun d => absurd c1 d, fun _ => ⟨by omega, hX (oXs σ 0) (hR.thr 1)⟩⟩
    · unfold wp_X6_setSprays
      exact x6_in (goes1 c1 ⟨fun d => absurd rfl d, fun _ => hQ⟩)
  · refine sim_mut (n' := n) (z' := upd (μ 0) 5 p) (v := μ 0 5) (BODY := fun σ3 Q => (∃ r4 : Nat, oF σ3 x 0 0 (.ref r4) ∧ (∃ w5 : MS × List Int32, σ3.2.1 r4 = some w5 ∧ (∃ r6 : Nat, oF σ3 x 0 0 (.ref r6) ∧ (∃ w8 : MS × List Int32, σ3.2.1 r6 = some w8 ∧ ∀ σ7 : OS, σ7 = oHc σ3 r6 (hU (w8.1, w8.2, σ3.2.2.1) 11 7 p) → (Q (w5.1 11 7) σ7)))))) (OPM := fun σ5 Q => (vp_in 5 (mLen 0) ∧ (∀ x6 : Int32, x6 = σ5 0 (5 : Int32).toNatClampNeg → (vp_in 5 (mLen 0) ∧ ∀ σ7 : MS, σ7 = mU σ5 0 (5 : Int32).toNatClampNeg p → (Q x6 σ7))))) hR hκ (Nat.le_refl _) (fun Q X h => ?_) (fun Q h => ?_) (fun σ9 hA y L n9 f1 _ f2 f3 f4 f5 f6 Q hQ => ?_) (fun σ8 e8 Q hQ => ?_)
    · unfold wp_X1_setSprays
      exact x1_in ⟨fun _ => ⟨hC, h⟩, fun d => absurd d c1⟩
    · unfold wp_X6_setSprays
      exact x6_in (goesY c1 (by decide) ⟨fun _ => h, fun d => absurd d (by decide)⟩)
    · obtain rfl := h1.nn f3
      refine ⟨hA, f1, (y, L), f2, hA, f1, (y, L), f2, fun σ7 e7 => ?_⟩
      have e5 : y 11 7 = μ 0 5 := f3.1.2.2.2.2.2.1
      show Q (y 11 7) σ7
      rw [e5, e7]
      obtain ⟨q0, -, -, -, -, -, qI⟩ := id f3
      obtain ⟨-, -, i1, i2, i3, -⟩ := qI
      have hk := (RK.of f3 (κ := σ9.2.2.1) (c := 0) (by omega)).scal (T' := T) (y' := mU y 11 7 p) (z' := upd (μ 0) 5 p) (q0.one 7 5 (by decide) (mU_us.trans pk_us.symm) (fun i _ _ hi => mU_at (Or.inr hi)) (fun i _ hi => pk_un hi)) (fun b i hb => mU_at (by omega)) (mU_at (by decide)) (fun i hi => pk_un (by omega)) (fun i hi => pk_un (by omega)) (by rw [pk_un (by decide)]; exact i1) (by rw [pk_un (by decide)]; exact i2) (by rw [pk_un (by decide), pk_un (by decide)]; exact i3)
      exact hQ _ hk.1 (fun q => by
        rw [pk_un (by decide)] at q
        obtain ⟨k, hk, e⟩ := f4 q
        exact ⟨k, hk, (ofz_sc (by decide)).trans e⟩)
    · rw [zc5, e8]
      refine ⟨zv5, fun x6 e6 => ⟨zv5, fun σ7 e7 => ?_⟩⟩
      rw [mU_mZ, e8] at e7
      rw [e6, e7]
      exact hQ
theorem sim_pass (hR : RO T x out σ.1 σ.2.1 μ) (hκ : σ.2.2.1 = 5000) (hT : T + 100 < 2 ^ 30) : Sim (T + 48) x out (wp_X1_pass x p σ) (wp_X6_pass p μ) cd1 := by
  obtain ⟨hA, y, L, n, hF, hC, hH, h1, h2, h12, h7⟩ := hR.begin
  by_cases c1 : rgV p 1 48 = 0
  · refine Or.inr ⟨1, 0, mU μ 5 3 1, by decide, fun Q X hX => ?_, fun Q hQ => ?_, mU_us⟩
    · unfold wp_X1_pass
      exact x1_in ⟨fun d => absurd c1 d, fun _ => ⟨by omega, hX (oXs σ 0) ((hR.thr 1).mono (by omega))⟩⟩
    · unfold wp_X6_pass
      exact x6_in (goes1 c1 ⟨fun d => absurd rfl d, fun _ => hQ⟩)
  · have hp := rgV_in c1
    have l1 : (1 : Int32).toInt = 1 := by decide
    have l48 : (48 : Int32).toInt = 48 := by decide
    obtain ⟨h, hh, rfl⟩ := to_nI (x := p) (n := 48) (by omega) (by omega)
    refine sim_mut (n' := n) (z' := (zHours (μ 0) n h).2) (v := (zHours (μ 0) n h).1) (BODY := fun σ9 Q => (∃ r10 : Nat, oF σ9 x 0 0 (.ref r10) ∧ (∃ w11 : MS × List Int32, σ9.2.1 r10 = some w11 ∧ wp_X2_pass (nI h) (w11.1, w11.2, σ9.2.2.1) (fun v14 s12 => ∀ σ13 : OS, σ13 = oHc σ9 r10 s12 → (Q v14 σ13))))) (OPM := fun σ8 Q => (wp_X6_hours (nI h) σ8 (fun v7 σ6 => (Q v7 σ6)))) hR hκ (by omega) (fun Q X h => ?_) (fun Q h => ?_) (fun σ9 hA y L n9 f1 _ f2 f3 f4 f5 f6 Q hQ => ?_) (fun σ8 e8 Q hQ => ?_)
    · unfold wp_X1_pass
      exact x1_in ⟨fun _ => ⟨hC, h⟩, fun d => absurd d c1⟩
    · unfold wp_X6_pass
      exact x6_in (goesY c1 (by decide) ⟨fun _ => h, fun d => absurd d (by decide)⟩)
    · obtain rfl := h1.nn f3
      exact ⟨hA, f1, (y, L), f2, x2_pass (c := 0) (T := T) (by omega) (by omega) (RK.of f3 (by omega)) f4 (fun s' g1 g2 σ13 e13 => by rw [e13]; exact hQ s' (g1.1.up (by omega)) g2)⟩
    · refine x6_hours (n := n) (by omega) (fun i _ => ?_) ?_
      · rw [e8]
        exact h1.zOK.hours i
      · rw [e8]
        exact hQ
end SM
