set_option maxRecDepth 100000
/-! PLAIN: calls that only look; by program -/
section LK
variable {T T' x out n j : Nat} {σ : OS} {μ : MS} {z z' : Zz} {a b p p2 : Int32}
theorem x6_tells {w : Nat} {Q : Int32 → MS → Prop} (hw : w < 9) (h7 : μ 0 7 = nI n) (h12 : n ≤ 12) (h0 : lotV n p = 0 → Q 0 (mU μ 5 3 1)) (h1 : ∀ j, j < n → p = nI j → Q (ofz (μ 0) j w) (mU μ 5 3 0)) : wp_X6_tells p (nI w) μ Q := by
  unfold wp_X6_tells
  refine x6_isLot h7 ?_
  by_cases c : lotV n p = 0
  · exact goes1 c ⟨fun _ => h0 c, fun d => absurd rfl d⟩
  · obtain ⟨j, hj, rfl⟩ := lotV_j h12 c
    refine goesY c (by decide) ⟨fun d => absurd d (by decide), fun _ => x6_of1 (by omega) hw ?_⟩
    rw [mU53 (by decide)]
    exact h1 j hj rfl
/-- a call on a lot that only looks -/
theorem sim_lot {wpC : (Int32 → OS → Prop) → (Nat → OS → Prop) → Prop} {wpM : (Int32 → MS → Prop) → Prop} {v : Nat → Int32} (hR : RO T x out σ.1 σ.2.1 μ) (h12 : n ≤ 12) (hC0 : lotV n p = 0 → ∀ Q X, X 0 (oXs σ 0) → wpC Q X) (hC1 : ∀ j, j < n → p = nI j → ∀ Q X, Q (v j) σ → wpC Q X) (hM0 : lotV n p = 0 → ∀ Q, Q 0 (mU μ 5 3 1) → wpM Q) (hM1 : ∀ j, j < n → p = nI j → ∀ Q, Q (v j) (mU μ 5 3 0) → wpM Q) : Sim T x out wpC wpM cd0 := by
  by_cases c : lotV n p = 0
  · exact Or.inr ⟨0, 0, mU μ 5 3 1, by decide, fun Q X hX => hC0 c Q X (hX (oXs σ 0) (hR.thr 1)), fun Q hQ => hM0 c Q hQ, mU_us⟩
  · obtain ⟨j, hj, e⟩ := lotV_j h12 c
    exact Or.inl ⟨v j, mU μ 5 3 0, fun Q X hQ => hC1 j hj e Q X (hQ σ (hR.thr 0)), fun Q hQ => hM1 j hj e Q hQ, mU_us⟩
theorem sim_placeOf (hR : RO T x out σ.1 σ.2.1 μ) (hκ : σ.2.2.1 = 5000) (hN : σ.2.2.2.1 = 0) : Sim T x out (wp_X1_placeOf x p σ) (wp_X6_placeOf p μ) cd0 := by
  obtain ⟨hA, y, L, n, hF, hC, hH, h1, h2, h12, h7⟩ := hR.begin
  obtain ⟨q0, qE, qS, qG, qD, qB, qI⟩ := id h1
  refine sim_lot (n := n) (p := p) (v := fun j => ofz (μ 0) j 0) hR h12 (fun c Q X hX => ?_) (fun j hj e Q X hQ => ?_) (fun c Q hQ => ?_) (fun j hj e Q hQ => ?_)
  · unfold wp_X1_placeOf
    exact ⟨hC, x1_needLot hF hH h1.lots hN (by omega) (fun d => absurd c d) (fun _ => hX)⟩
  · unfold wp_X1_placeOf
    have e9 : (y, L).1 6 j = ofz (μ 0) j 0 := (qE j hj).1
    refine ⟨hC, x1_needLot hF hH h1.lots hN (by omega) (fun _ => ⟨hA, hF, (y, L), hH, (y, L), hH, ?_, ?_⟩) (fun c => absurd c (by rw [e, lotV_of h12 hj]; decide))⟩
    · rw [e]; exact vl (by omega)
    · rw [e, cl (by omega), e9]; exact hQ
  · unfold wp_X6_placeOf
    exact x6_tells (w := 0) (by decide) h7 h12 (fun _ => hQ) (fun j hj e => absurd c (by rw [e, lotV_of h12 hj]; decide))
  · unfold wp_X6_placeOf
    exact x6_tells (w := 0) (by decide) h7 h12 (fun c => absurd c (by rw [e, lotV_of h12 hj]; decide)) (fun k hk e2 => by rw [e] at e2; rw [← (nI_eq (a := j) (b := k) (by omega) (by omega)).1 e2]; exact hQ)
theorem sim_wetnessOf (hR : RO T x out σ.1 σ.2.1 μ) (hκ : σ.2.2.1 = 5000) (hN : σ.2.2.2.1 = 0) : Sim T x out (wp_X1_wetnessOf x p σ) (wp_X6_wetnessOf p μ) cd0 := by
  obtain ⟨hA, y, L, n, hF, hC, hH, h1, h2, h12, h7⟩ := hR.begin
  obtain ⟨q0, qE, qS, qG, qD, qB, qI⟩ := id h1
  refine sim_lot (n := n) (p := p) (v := fun j => ofz (μ 0) j 4) hR h12 (fun c Q X hX => ?_) (fun j hj e Q X hQ => ?_) (fun c Q hQ => ?_) (fun j hj e Q hQ => ?_)
  · unfold wp_X1_wetnessOf
    exact ⟨hC, x1_needLot hF hH h1.lots hN (by omega) (fun d => absurd c d) (fun _ => hX)⟩
  · unfold wp_X1_wetnessOf
    have e9 : (y, L).1 2 j = ofz (μ 0) j 4 := (qE j hj).2.2.2.1
    refine ⟨hC, x1_needLot hF hH h1.lots hN (by omega) (fun _ => ⟨hA, hF, (y, L), hH, (y, L), hH, ?_, ?_⟩) (fun c => absurd c (by rw [e, lotV_of h12 hj]; decide))⟩
    · rw [e]; exact vl (by omega)
    · rw [e, cl (by omega), e9]; exact hQ
  · unfold wp_X6_wetnessOf
    exact x6_tells (w := 4) (by decide) h7 h12 (fun _ => hQ) (fun j hj e => absurd c (by rw [e, lotV_of h12 hj]; decide))
  · unfold wp_X6_wetnessOf
    exact x6_tells (w := 4) (by decide) h7 h12 (fun c => absurd c (by rw [e, lotV_of h12 hj]; decide)) (fun k hk e2 => by rw [e] at e2; rw [← (nI_eq (a := j) (b := k) (by omega) (by omega)).1 e2]; exact hQ)
theorem sim_growthOf (hR : RO T x out σ.1 σ.2.1 μ) (hκ : σ.2.2.1 = 5000) (hN : σ.2.2.2.1 = 0) : Sim T x out (wp_X1_growthOf x p σ) (wp_X6_growthOf p μ) cd0 := by
  obtain ⟨hA, y, L, n, hF, hC, hH, h1, h2, h12, h7⟩ := hR.begin
  obtain ⟨q0, qE, qS, qG, qD, qB, qI⟩ := id h1
  refine sim_lot (n := n) (p := p) (v := fun j => ofz (μ 0) j 5) hR h12 (fun c Q X hX => ?_) (fun j hj e Q X hQ => ?_) (fun c Q hQ => ?_) (fun j hj e Q hQ => ?_)
  · unfold wp_X1_growthOf
    exact ⟨hC, x1_needLot hF hH h1.lots hN (by omega) (fun d => absurd c d) (fun _ => hX)⟩
  · unfold wp_X1_growthOf
    have e9 : (y, L).1 3 j = ofz (μ 0) j 5 := (qE j hj).2.2.2.2.1
    refine ⟨hC, x1_needLot hF hH h1.lots hN (by omega) (fun _ => ⟨hA, hF, (y, L), hH, (y, L), hH, ?_, ?_⟩) (fun c => absurd c (by rw [e, lotV_of h12 hj]; decide))⟩
    · rw [e]; exact vl (by omega)
    · rw [e, cl (by omega), e9]; exact hQ
  · unfold wp_X6_growthOf
    exact x6_tells (w := 5) (by decide) h7 h12 (fun _ => hQ) (fun j hj e => absurd c (by rw [e, lotV_of h12 hj]; decide))
  · unfold wp_X6_growthOf
    exact x6_tells (w := 5) (by decide) h7 h12 (fun c => absurd c (by rw [e, lotV_of h12 hj]; decide)) (fun k hk e2 => by rw [e] at e2; rw [← (nI_eq (a := j) (b := k) (by omega) (by omega)).1 e2]; exact hQ)
theorem sim_heatOf (hR : RO T x out σ.1 σ.2.1 μ) (hκ : σ.2.2.1 = 5000) (hN : σ.2.2.2.1 = 0) : Sim T x out (wp_X1_heatOf x p σ) (wp_X6_heatOf p μ) cd0 := by
  obtain ⟨hA, y, L, n, hF, hC, hH, h1, h2, h12, h7⟩ := hR.begin
  obtain ⟨q0, qE, qS, qG, qD, qB, qI⟩ := id h1
  refine sim_lot (n := n) (p := p) (v := fun j => ofz (μ 0) j 6) hR h12 (fun c Q X hX => ?_) (fun j hj e Q X hQ => ?_) (fun c Q hQ => ?_) (fun j hj e Q hQ => ?_)
  · unfold wp_X1_heatOf
    exact ⟨hC, x1_needLot hF hH h1.lots hN (by omega) (fun d => absurd c d) (fun _ => hX)⟩
  · unfold wp_X1_heatOf
    have e9 : (y, L).1 4 j = ofz (μ 0) j 6 := (qE j hj).2.2.2.2.2.1
    refine ⟨hC, x1_needLot hF hH h1.lots hN (by omega) (fun _ => ⟨hA, hF, (y, L), hH, (y, L), hH, ?_, ?_⟩) (fun c => absurd c (by rw [e, lotV_of h12 hj]; decide))⟩
    · rw [e]; exact vl (by omega)
    · rw [e, cl (by omega), e9]; exact hQ
  · unfold wp_X6_heatOf
    exact x6_tells (w := 6) (by decide) h7 h12 (fun _ => hQ) (fun j hj e => absurd c (by rw [e, lotV_of h12 hj]; decide))
  · unfold wp_X6_heatOf
    exact x6_tells (w := 6) (by decide) h7 h12 (fun c => absurd c (by rw [e, lotV_of h12 hj]; decide)) (fun k hk e2 => by rw [e] at e2; rw [← (nI_eq (a := j) (b := k) (by omega) (by omega)).1 e2]; exact hQ)
theorem sim_feltOf (hR : RO T x out σ.1 σ.2.1 μ) (hκ : σ.2.2.1 = 5000) (hN : σ.2.2.2.1 = 0) : Sim T x out (wp_X1_feltOf x p σ) (wp_X6_feltOf p μ) cd0 := by
  obtain ⟨hA, y, L, n, hF, hC, hH, h1, h2, h12, h7⟩ := hR.begin
  obtain ⟨q0, qE, qS, qG, qD, qB, qI⟩ := id h1
  refine sim_lot (n := n) (p := p) (v := fun j => ofz (μ 0) j 7) hR h12 (fun c Q X hX => ?_) (fun j hj e Q X hQ => ?_) (fun c Q hQ => ?_) (fun j hj e Q hQ => ?_)
  · unfold wp_X1_feltOf
    exact ⟨hC, x1_needLot hF hH h1.lots hN (by omega) (fun d => absurd c d) (fun _ => hX)⟩
  · unfold wp_X1_feltOf
    have e9 : (y, L).1 5 j = ofz (μ 0) j 7 := (qE j hj).2.2.2.2.2.2
    refine ⟨hC, x1_needLot hF hH h1.lots hN (by omega) (fun _ => ⟨hA, hF, (y, L), hH, (y, L), hH, ?_, ?_⟩) (fun c => absurd c (by rw [e, lotV_of h12 hj]; decide))⟩
    · rw [e]; exact vl (by omega)
    · rw [e, cl (by omega), e9]; exact hQ
  · unfold wp_X6_feltOf
    exact x6_tells (w := 7) (by decide) h7 h12 (fun _ => hQ) (fun j hj e => absurd c (by rw [e, lotV_of h12 hj]; decide))
  · unfold wp_X6_feltOf
    exact x6_tells (w := 7) (by decide) h7 h12 (fun c => absurd c (by rw [e, lotV_of h12 hj]; decide)) (fun k hk e2 => by rw [e] at e2; rw [← (nI_eq (a := j) (b := k) (by omega) (by omega)).1 e2]; exact hQ)
theorem sim_drumOf (hR : RO T x out σ.1 σ.2.1 μ) (hκ : σ.2.2.1 = 5000) (hN : σ.2.2.2.1 = 0) : Sim T x out (wp_X1_drumOf x p σ) (wp_X6_drumOf p μ) cd0 := by
  obtain ⟨hA, y, L, n, hF, hC, hH, h1, h2, h12, h7⟩ := hR.begin
  obtain ⟨q0, qE, qS, qG, qD, qB, qI⟩ := id h1
  refine sim_lot (n := n) (p := p) (v := fun j => ofz (μ 0) j 1) hR h12 (fun c Q X hX => ?_) (fun j hj e Q X hQ => ?_) (fun c Q hQ => ?_) (fun j hj e Q hQ => ?_)
  · unfold wp_X1_drumOf
    exact ⟨hC, x1_needLot hF hH h1.lots hN (by omega) (fun d => absurd c d) (fun _ => hX)⟩
  · subst e
    have hlj := qI.2.1 j hj
    unfold wp_X1_drumOf
    refine ⟨hC, x1_needLot hF hH h1.lots hN (by omega) (fun _ => ⟨hA, hF, (y, L), hH, x2_drumOf (s := (y, L, σ.2.2.1)) qD hlj.lj hj (fun σ5 e5 => ?_)⟩) (fun c => absurd c (by rw [lotV_of h12 hj]; decide))⟩
    rw [oHc_same (w := (y, L)) hN hH] at e5
    rw [e5]
    exact hQ
  · unfold wp_X6_drumOf
    exact x6_tells (w := 1) (by decide) h7 h12 (fun _ => hQ) (fun j hj e => absurd c (by rw [e, lotV_of h12 hj]; decide))
  · subst e
    have hlj := qI.2.1 j hj
    have hl1 : lotV n (nI j) = 1 := lotV_of h12 hj
    unfold wp_X6_drumOf
    exact x6_tells (w := 1) (by decide) h7 h12 (fun c => absurd c (by rw [hl1]; decide)) (fun k hk e2 => by rw [← (nI_eq (a := j) (b := k) (by omega) (by omega)).1 e2]; exact hQ)
theorem sim_whyNotSteep (hR : RO T x out σ.1 σ.2.1 μ) (hκ : σ.2.2.1 = 5000) (hN : σ.2.2.2.1 = 0) : Sim T x out (wp_X1_whyNotSteep x p σ) (wp_X6_whyNotSteep p μ) cd0 := by
  obtain ⟨hA, y, L, n, hF, hC, hH, h1, h2, h12, h7⟩ := hR.begin
  obtain ⟨q0, qE, qS, qG, qD, qB, qI⟩ := id h1
  refine sim_lot (n := n) (p := p) (v := fun j => znoSteep (μ 0) n j) hR h12 (fun c Q X hX => ?_) (fun j hj e Q X hQ => ?_) (fun c Q hQ => ?_) (fun j hj e Q hQ => ?_)
  · unfold wp_X1_whyNotSteep
    exact ⟨hC, x1_needLot hF hH h1.lots hN (by omega) (fun d => absurd c d) (fun _ => hX)⟩
  · subst e
    have hlj := qI.2.1 j hj
    unfold wp_X1_whyNotSteep
    refine ⟨hC, x1_needLot hF hH h1.lots hN (by omega) (fun _ => ⟨hA, hF, (y, L), hH, x2_whyNotSteep (s := (y, L, σ.2.2.1)) h1.lots qE h12 hj (fun σ5 e5 => ?_)⟩) (fun c => absurd c (by rw [lotV_of h12 hj]; decide))⟩
    rw [oHc_same (w := (y, L)) hN hH] at e5
    rw [e5]
    exact hQ
  · unfold wp_X6_whyNotSteep
    exact x6_isLot h7 (goes1 c ⟨fun _ => hQ, fun d => absurd rfl d⟩)
  · subst e
    have hlj := qI.2.1 j hj
    have hl1 : lotV n (nI j) = 1 := lotV_of h12 hj
    unfold wp_X6_whyNotSteep
    refine x6_isLot h7 ?_
    rw [hl1]
    exact goesY (by decide) (by decide) ⟨fun d => absurd d (by decide), fun _ => x6_noSteep (by rw [mU53 (by decide)]; exact h7) h12 hj (by rw [mU53 (by decide)]; exact hQ)⟩
theorem sim_whyNotLoad (hR : RO T x out σ.1 σ.2.1 μ) (hκ : σ.2.2.1 = 5000) (hN : σ.2.2.2.1 = 0) : Sim T x out (wp_X1_whyNotLoad x p σ) (wp_X6_whyNotLoad p μ) cd0 := by
  obtain ⟨hA, y, L, n, hF, hC, hH, h1, h2, h12, h7⟩ := hR.begin
  obtain ⟨q0, qE, qS, qG, qD, qB, qI⟩ := id h1
  refine sim_lot (n := n) (p := p) (v := fun j => znoLoad (μ 0) n j) hR h12 (fun c Q X hX => ?_) (fun j hj e Q X hQ => ?_) (fun c Q hQ => ?_) (fun j hj e Q hQ => ?_)
  · unfold wp_X1_whyNotLoad
    exact ⟨hC, x1_needLot hF hH h1.lots hN (by omega) (fun d => absurd c d) (fun _ => hX)⟩
  · subst e
    have hlj := qI.2.1 j hj
    unfold wp_X1_whyNotLoad
    refine ⟨hC, x1_needLot hF hH h1.lots hN (by omega) (fun _ => ⟨hA, hF, (y, L), hH, x2_whyNotLoad (s := (y, L, σ.2.2.1)) h1.lots qE q0.2.1 qI.2.2.1 h12 hj (fun σ5 e5 => ?_)⟩) (fun c => absurd c (by rw [lotV_of h12 hj]; decide))⟩
    rw [oHc_same (w := (y, L)) hN hH] at e5
    rw [e5]
    exact hQ
  · unfold wp_X6_whyNotLoad
    exact x6_isLot h7 (goes1 c ⟨fun _ => hQ, fun d => absurd rfl d⟩)
  · subst e
    have hlj := qI.2.1 j hj
    have hl1 : lotV n (nI j) = 1 := lotV_of h12 hj
    unfold wp_X6_whyNotLoad
    refine x6_isLot h7 ?_
    rw [hl1]
    exact goesY (by decide) (by decide) ⟨fun d => absurd d (by decide), fun _ => x6_noLoad (by rw [mU53 (by decide)]; exact h7) h12 hj (by rw [mU53 (by decide)]; exact hQ)⟩
theorem sim_whyNotSpray (hR : RO T x out σ.1 σ.2.1 μ) (hκ : σ.2.2.1 = 5000) (hN : σ.2.2.2.1 = 0) : Sim T x out (wp_X1_whyNotSpray x p σ) (wp_X6_whyNotSpray p μ) cd0 := by
  obtain ⟨hA, y, L, n, hF, hC, hH, h1, h2, h12, h7⟩ := hR.begin
  obtain ⟨q0, qE, qS, qG, qD, qB, qI⟩ := id h1
  refine sim_lot (n := n) (p := p) (v := fun j => znoSpray (μ 0) j) hR h12 (fun c Q X hX => ?_) (fun j hj e Q X hQ => ?_) (fun c Q hQ => ?_) (fun j hj e Q hQ => ?_)
  · unfold wp_X1_whyNotSpray
    exact ⟨hC, x1_needLot hF hH h1.lots hN (by omega) (fun d => absurd c d) (fun _ => hX)⟩
  · subst e
    have hlj := qI.2.1 j hj
    unfold wp_X1_whyNotSpray
    refine ⟨hC, x1_needLot hF hH h1.lots hN (by omega) (fun _ => ⟨hA, hF, (y, L), hH, x2_whyNotSpray (s := (y, L, σ.2.2.1)) qE qD qS hlj q0.2.2.2.2.2.2.1 h12 hj (fun σ5 e5 => ?_)⟩) (fun c => absurd c (by rw [lotV_of h12 hj]; decide))⟩
    rw [oHc_same (w := (y, L)) hN hH] at e5
    rw [e5]
    exact hQ
  · unfold wp_X6_whyNotSpray
    exact x6_isLot h7 (goes1 c ⟨fun _ => hQ, fun d => absurd rfl d⟩)
  · subst e
    have hlj := qI.2.1 j hj
    have hl1 : lotV n (nI j) = 1 := lotV_of h12 hj
    unfold wp_X6_whyNotSpray
    refine x6_isLot h7 ?_
    rw [hl1]
    exact goesY (by decide) (by decide) ⟨fun d => absurd d (by decide), fun _ => x6_noSpray h12 hj (by rw [mU53 (by decide)]; exact hlj.1) (by rw [mU53 (by decide)]; exact hQ)⟩
theorem sim_paceOf (hR : RO T x out σ.1 σ.2.1 μ) (hκ : σ.2.2.1 = 5000) (hN : σ.2.2.2.1 = 0) : Sim T x out (wp_X1_paceOf x p σ) (wp_X6_paceOf p μ) cd0 := by
  obtain ⟨hA, y, L, n, hF, hC, hH, h1, h2, h12, h7⟩ := hR.begin
  obtain ⟨q0, qE, qS, qG, qD, qB, qI⟩ := id h1
  refine sim_lot (n := n) (p := p) (v := fun j => if ofz (μ 0) j 0 = 2 ∨ ofz (μ 0) j 0 = 3 then paceF (ofz (μ 0) j) else 0) hR h12 (fun c Q X hX => ?_) (fun j hj e Q X hQ => ?_) (fun c Q hQ => ?_) (fun j hj e Q hQ => ?_)
  · unfold wp_X1_paceOf
    exact ⟨hC, x1_needLot hF hH h1.lots hN (by omega) (fun d => absurd c d) (fun _ => hX)⟩
  · subst e
    have hlj := qI.2.1 j hj
    unfold wp_X1_paceOf
    refine ⟨hC, x1_needLot hF hH h1.lots hN (by omega) (fun _ => ⟨hA, hF, (y, L), hH, x2_pace (s := (y, L, σ.2.2.1)) qE hlj h12 hj (fun σ5 e5 => ?_)⟩) (fun c => absurd c (by rw [lotV_of h12 hj]; decide))⟩
    rw [oHc_same (w := (y, L)) hN hH] at e5
    rw [e5]
    exact hQ
  · unfold wp_X6_paceOf
    exact x6_isLot h7 (goes1 c ⟨fun _ => hQ, fun d => absurd rfl d⟩)
  · subst e
    have hlj := qI.2.1 j hj
    have hl1 : lotV n (nI j) = 1 := lotV_of h12 hj
    unfold wp_X6_paceOf
    refine x6_isLot h7 ?_
    rw [hl1]
    refine goesY (by decide) (by decide) ⟨fun d => absurd d (by decide), fun _ => x6_grow1 (by omega) (fun g => ⟨fun d => absurd d (by decide), fun _ => x6_pace (by omega) ?_⟩) (fun g => ⟨fun _ => ?_, fun d => absurd rfl d⟩)⟩
    · rw [mU53 (by decide)] at g ⊢
      rw [if_pos g] at hQ
      exact hQ
    · rw [mU53 (by decide)] at g
      rw [if_neg g] at hQ
      exact hQ
theorem sim_weightOf (hR : RO T x out σ.1 σ.2.1 μ) (hκ : σ.2.2.1 = 5000) (hN : σ.2.2.2.1 = 0) : Sim T x out (wp_X1_weightOf x p σ) (wp_X6_weightOf p μ) cd0 := by
  obtain ⟨hA, y, L, n, hF, hC, hH, h1, h2, h12, h7⟩ := hR.begin
  obtain ⟨q0, qE, qS, qG, qD, qB, qI⟩ := id h1
  refine sim_lot (n := n) (p := p) (v := fun j => 1000 * ofz (μ 0) j 2 + ofz (μ 0) j 3) hR h12 (fun c Q X hX => ?_) (fun j hj e Q X hQ => ?_) (fun c Q hQ => ?_) (fun j hj e Q hQ => ?_)
  · unfold wp_X1_weightOf
    exact ⟨hC, x1_needLot hF hH h1.lots hN (by omega) (fun d => absurd c d) (fun _ => hX)⟩
  · subst e
    unfold wp_X1_weightOf
    have e9 : (y, L).1 0 j = ofz (μ 0) j 2 := (qE j hj).2.1
    have e8 : (y, L).1 1 j = ofz (μ 0) j 3 := (qE j hj).2.2.1
    refine ⟨hC, x1_needLot hF hH h1.lots hN (by omega) (fun _ => ⟨hA, hF, (y, L), hH, (y, L), hH, vl (by omega), hA, hF, (y, L), hH, (y, L), hH, vl (by omega), ?_⟩) (fun c => absurd c (by rw [lotV_of h12 hj]; decide))⟩
    rw [cl (by omega), e9, e8]
    exact hQ
  · unfold wp_X6_weightOf
    exact x6_isLot h7 (goes1 c ⟨fun _ => hQ, fun d => absurd rfl d⟩)
  · subst e
    have hl1 : lotV n (nI j) = 1 := lotV_of h12 hj
    unfold wp_X6_weightOf
    refine x6_isLot h7 ?_
    rw [hl1]
    exact goesY (by decide) (by decide) ⟨fun d => absurd d (by decide), fun _ => x6_of1 (w := 2) (by omega) (by decide) (x6_of1 (w := 3) (by omega) (by decide) (by rw [mU53 (by decide)]; exact hQ))⟩
theorem gl_bit {g : Int32} (hj : j < 12) : ((g >>> (nI j &&& 31)) &&& 1) = 1 ↔ bt g j = true := by
  have hb : ∀ i, i < 32 → bt ((g >>> (nI j &&& 31)) &&& 1) i = (decide (i = 0) && bt g j) := by
    intro i hi
    rw [b_and, b_1 i hi]
    by_cases c : i = 0
    · subst c
      rw [b_sshr j (by omega) g (by decide), if_pos (by omega), Nat.add_zero]
      simp
    · simp [c]
  constructor
  · intro e
    have := hb 0 (by decide)
    rw [e, b_1 0 (by decide)] at this
    simpa using this.symm
  · intro e
    refine b_ext (fun i hi => ?_)
    rw [hb i hi, b_1 i hi, e, Bool.and_true]
theorem sim_isGlassy (hR : RO T x out σ.1 σ.2.1 μ) (hκ : σ.2.2.1 = 5000) (hN : σ.2.2.2.1 = 0) : Sim T x out (wp_X1_isGlassy x p σ) (wp_X6_isGlassy p μ) cd0 := by
  obtain ⟨hA, y, L, n, hF, hC, hH, h1, h2, h12, h7⟩ := hR.begin
  obtain ⟨q0, qE, qS, qG, qD, qB, qI⟩ := id h1
  refine sim_lot (n := n) (p := p) (v := fun j => ofz (μ 0) j 8) hR h12 (fun c Q X hX => ?_) (fun j hj e Q X hQ => ?_) (fun c Q hQ => ?_) (fun j hj e Q hQ => ?_)
  · unfold wp_X1_isGlassy
    exact ⟨hC, x1_needLot hF hH h1.lots hN (by omega) (fun d => absurd c d) (fun _ => hX)⟩
  · subst e
    unfold wp_X1_isGlassy
    have h8 := (qI.2.1 j hj).2.2.2.2.2.2
    have hb : (((y, L).1 11 0 >>> (nI j &&& 31)) &&& 1) = 1 ↔ ofz (μ 0) j 8 = 1 := by
      rw [gl_bit (by omega)]
      show bt (y 11 0) j = true ↔ _
      rw [qG j (by omega), decide_eq_true_iff]
      exact ⟨fun q => q.2, fun q => ⟨hj, q⟩⟩
    refine ⟨hC, x1_needLot hF hH h1.lots hN (by omega) (fun _ => ⟨hA, hF, (y, L), hH, fun d => ?_, fun d => ?_⟩) (fun c => absurd c (by rw [lotV_of h12 hj]; decide))⟩
    · rw [h8.resolve_right (fun q => d (hb.2 q))] at hQ
      exact hQ
    · rw [hb.1 d] at hQ
      exact hQ
  · unfold wp_X6_isGlassy
    exact x6_tells (w := 8) (by decide) h7 h12 (fun _ => ⟨fun _ => hQ, fun d => absurd d (by decide)⟩) (fun j hj e => absurd c (by rw [e, lotV_of h12 hj]; decide))
  · subst e
    have h8 := (qI.2.1 j hj).2.2.2.2.2.2
    unfold wp_X6_isGlassy
    refine x6_tells (w := 8) (by decide) h7 h12 (fun c => absurd c (by rw [lotV_of h12 hj]; decide)) (fun k hk e2 => ?_)
    rw [← (nI_eq (a := j) (b := k) (by omega) (by omega)).1 e2]
    refine ⟨fun d => ?_, fun d => ?_⟩
    · rw [h8.resolve_right d] at hQ; exact hQ
    · rw [d] at hQ; exact hQ
theorem sim_whyNotDrum (hR : RO T x out σ.1 σ.2.1 μ) (hκ : σ.2.2.1 = 5000) (hN : σ.2.2.2.1 = 0) : Sim T x out (wp_X1_whyNotDrum x p p2 σ) (wp_X6_whyNotDrum p p2 μ) cd0 := by
  obtain ⟨hA, y, L, n, hF, hC, hH, h1, h2, h12, h7⟩ := hR.begin
  obtain ⟨q0, qE, qS, qG, qD, qB, qI⟩ := id h1
  by_cases c1 : lotV n p = 0
  · refine Or.inr ⟨0, 0, mU μ 5 3 1, by decide, fun Q X hX => ?_, fun Q hQ => ?_, mU_us⟩
    · unfold wp_X1_whyNotDrum
      exact ⟨hC, x1_needLot hF hH h1.lots hN (by omega) (fun d => absurd c1 d) (fun _ => hX (oXs σ 0) (hR.thr 1))⟩
    · unfold wp_X6_whyNotDrum
      exact x6_isLot h7 (jnI ⟨fun _ => goes1 rfl ⟨fun _ => hQ, fun d => absurd rfl d⟩, fun d => absurd c1 d⟩)
  obtain ⟨j, hj, rfl⟩ := lotV_j h12 c1
  by_cases c3 : drmV p2 = 0
  · refine Or.inr ⟨0, 0, mU μ 5 3 1, by decide, fun Q X hX => ?_, fun Q hQ => ?_, mU_us⟩
    · unfold wp_X1_whyNotDrum
      exact ⟨hC, x1_needLot hF hH h1.lots hN (by omega) (fun _ => x1_isDrum ⟨fun d => absurd c3 d, fun _ => ⟨by omega, hX (oXs σ 0) (hR.thr 1)⟩⟩) (fun d => absurd d c1)⟩
    · unfold wp_X6_whyNotDrum
      exact x6_isLot h7 (jnI ⟨fun d => absurd d c1, fun _ => x6_isDrum ⟨fun _ => goes1 rfl ⟨fun _ => hQ, fun d => absurd rfl d⟩, fun d => absurd c3 d⟩⟩)
  obtain ⟨d, hd, rfl⟩ := drmV_j c3
  refine Or.inl ⟨znoDrum (μ 0) n j (nI d), mU μ 5 3 0, fun Q X hQ => ?_, fun Q hQ => ?_, mU_us⟩
  · unfold wp_X1_whyNotDrum
    refine ⟨hC, x1_needLot hF hH h1.lots hN (by omega) (fun _ => x1_isDrum ⟨fun _ => ⟨hA, hF, (y, L), hH, x2_whyNotDrum (s := (y, L, σ.2.2.1)) qE qD h12 hj hd (fun σ5 e5 => ?_)⟩, fun d => absurd d c3⟩) (fun d => absurd d c1)⟩
    rw [oHc_same (w := (y, L)) hN hH] at e5
    rw [e5]
    exact hQ σ (hR.thr 0)
  · unfold wp_X6_whyNotDrum
    exact x6_isLot h7 (jnI ⟨fun d => absurd d c1, fun _ => x6_isDrum ⟨fun d => absurd d c3, fun _ => goesY (by decide) (by decide) ⟨fun d => absurd d (by decide), fun _ => x6_noDrum (by rw [mU53 (by decide)]; exact h7) h12 hj (by rw [mU53 (by decide)]; exact hQ)⟩⟩⟩)
theorem sim_lotsIn (hR : RO T x out σ.1 σ.2.1 μ) (hκ : σ.2.2.1 = 5000) (hN : σ.2.2.2.1 = 0) : Sim T x out (wp_X1_lotsIn x p σ) (wp_X6_lotsIn p μ) cd1 := by
  obtain ⟨hA, y, L, n, hF, hC, hH, h1, h2, h12, h7⟩ := hR.begin
  obtain ⟨q0, qE, qS, qG, qD, qB, qI⟩ := id h1
  by_cases c1 : rgV p 0 6 = 0
  · refine Or.inr ⟨1, 0, mU μ 5 3 1, by decide, fun Q X hX => ?_, fun Q hQ => ?_, mU_us⟩
    · unfold wp_X1_lotsIn
      exact x1_in ⟨fun d => absurd c1 d, fun _ => ⟨by omega, hX (oXs σ 0) (hR.thr 1)⟩⟩
    · unfold wp_X6_lotsIn
      exact x6_in (goes1 c1 ⟨fun d => absurd rfl d, fun _ => hQ⟩)
  · refine Or.inl ⟨zmsk (μ 0) p n, mU μ 5 3 0, fun Q X hQ => ?_, fun Q hQ => ?_, mU_us⟩
    · unfold wp_X1_lotsIn
      refine x1_in ⟨fun _ => ⟨hA, hF, (y, L), hH, x2_set (s := (y, L, σ.2.2.1)) (n := n) (z := μ 0) h1.lots qE h12 (fun σ5 e5 => ?_)⟩, fun d => absurd d c1⟩
      rw [oHc_same (w := (y, L)) hN hH] at e5
      rw [e5]
      exact hQ σ (hR.thr 0)
    · unfold wp_X6_lotsIn
      refine x6_in (goesY c1 (by decide) ⟨fun _ => jnI ?_, fun d => absurd d (by decide)⟩)
      exact x6_lotsIn_L (kx := fun x9 _ σ11 => Q x9 σ11) (σ := mU μ 5 3 0) (n := n) ((congrFun (mU53 (by decide)) 7).trans h7) h12 hQ n mF 0 (by omega) (by unfold mF; omega)
theorem sim_lotIn (hR : RO T x out σ.1 σ.2.1 μ) (hκ : σ.2.2.1 = 5000) (hN : σ.2.2.2.1 = 0) : Sim T x out (wp_X1_lotIn x p σ) (wp_X6_lotIn p μ) cd0 := by
  obtain ⟨hA, y, L, n, hF, hC, hH, h1, h2, h12, h7⟩ := hR.begin
  obtain ⟨q0, qE, qS, qG, qD, qB, qI⟩ := id h1
  by_cases c3 : drmV p = 0
  · refine Or.inr ⟨0, 0, mU μ 5 3 1, by decide, fun Q X hX => ?_, fun Q hQ => ?_, mU_us⟩
    · unfold wp_X1_lotIn
      exact x1_isDrum ⟨fun d => absurd c3 d, fun _ => ⟨by omega, hX (oXs σ 0) (hR.thr 1)⟩⟩
    · unfold wp_X6_lotIn
      exact x6_isDrum (goes1 c3 ⟨fun _ => hQ, fun d => absurd rfl d⟩)
  obtain ⟨d, hd, rfl⟩ := drmV_j c3
  refine Or.inl ⟨zind (μ 0) (nI d) n, mU μ 5 3 0, fun Q X hQ => ?_, fun Q hQ => ?_, mU_us⟩
  · unfold wp_X1_lotIn
    rw [cd hd]
    refine x1_isDrum ⟨fun _ => ⟨hA, hF, (y, L), hH, (y, L), hH, vd hd, (y, L), hH, hd, ?_⟩, fun d => absurd d c3⟩
    show Q (y 7 d) σ
    rw [← zind_eq qD h12 hd]
    exact hQ σ (hR.thr 0)
  · unfold wp_X6_lotIn
    exact x6_isDrum (goesY c3 (by decide) ⟨fun d => absurd d (by decide), fun _ => x6_inDrum (n := n) (by rw [mU53 (by decide)]; exact h7) h12 (by rw [mU53 (by decide)]; exact hQ)⟩)
theorem sim_settingsOf (hR : RO T x out σ.1 σ.2.1 μ) (hκ : σ.2.2.1 = 5000) (hN : σ.2.2.2.1 = 0) : Sim T x out (wp_X1_settingsOf x p σ) (wp_X6_settingsOf p μ) cd0 := by
  obtain ⟨hA, y, L, n, hF, hC, hH, h1, h2, h12, h7⟩ := hR.begin
  obtain ⟨q0, qE, qS, qG, qD, qB, qI⟩ := id h1
  by_cases c3 : drmV p = 0
  · refine Or.inr ⟨0, 0, mU μ 5 3 1, by decide, fun Q X hX => ?_, fun Q hQ => ?_, mU_us⟩
    · unfold wp_X1_settingsOf
      exact x1_isDrum ⟨fun d => absurd c3 d, fun _ => ⟨by omega, hX (oXs σ 0) (hR.thr 1)⟩⟩
    · unfold wp_X6_settingsOf
      exact x6_isDrum (goes1 c3 ⟨fun _ => hQ, fun d => absurd rfl d⟩)
  obtain ⟨d, hd, rfl⟩ := drmV_j c3
  obtain ⟨t1, t2, t3⟩ := qS d hd
  refine Or.inl ⟨100 * μ 0 (32 + 3 * d) + 10 * μ 0 (32 + 3 * d + 1) + μ 0 (32 + 3 * d + 2), mU μ 5 3 0, fun Q X hQ => ?_, fun Q hQ => ?_, mU_us⟩
  · unfold wp_X1_settingsOf
    rw [cd hd]
    refine x1_isDrum ⟨fun _ => ⟨hA, hF, (y, L), hH, (y, L), hH, vd hd, (y, L), hH, hd, (y, L), hH, hd, (y, L), hH, hd, ?_⟩, fun d => absurd d c3⟩
    show Q (100 * y 8 d + 10 * y 9 d + y 10 d) σ
    rw [t1, t2, t3]
    exact hQ σ (hR.thr 0)
  · unfold wp_X6_settingsOf
    obtain ⟨i0, i1⟩ := si0 d hd
    obtain ⟨i2, i3⟩ := si d 1 hd (by decide)
    obtain ⟨i4, i5⟩ := si d 2 hd (by decide)
    have i3' : ((32 + (3 * nI d)) + 1).toNatClampNeg = 32 + 3 * d + 1 := i3
    have i5' : ((32 + (3 * nI d)) + 2).toNatClampNeg = 32 + 3 * d + 2 := i5
    refine x6_isDrum (goesY c3 (by decide) ⟨fun d => absurd d (by decide), fun _ => ⟨i0, i2, i4, ?_⟩⟩)
    rw [i1, i3', i5', mU53 (by decide)]
    exact hQ
theorem sim_entryAt (hR : RO T x out σ.1 σ.2.1 μ) (hκ : σ.2.2.1 = 5000) (hN : σ.2.2.2.1 = 0) : Sim T x out (wp_X1_entryAt x p σ) (wp_X6_entryAt p μ) cd0 := by
  obtain ⟨hA, y, L, n, hF, hC, hH, h1, h2, h12, h7⟩ := hR.begin
  obtain ⟨q0, qE, qS, qG, qD, qB, qI⟩ := id h1
  obtain ⟨g1, g2, g3⟩ := qB
  have hent : ∀ Q : Int32 → OS → Prop, (∀ B, Q (nI L.length) (σ.1, σ.2.1, σ.2.2.1, σ.2.2.2.1, B)) → wp_X1_entries x σ Q := by
    intro Q hQ
    unfold wp_X1_entries
    refine ⟨hA, hF, (y, L), hH, fun b3 hb3 σ4 e4 => ⟨fun c => ?_, fun r5 c => ?_⟩⟩
    · have eL : L = [] := hb3.1 c
      rw [e4]
      have := hQ ((b3, L) :: σ.2.2.2.2)
      have e0 : nI L.length = 0 := by rw [eL]; rfl
      rw [e0] at this
      exact this
    · subst e4
      have hne : L ≠ [] := fun q => by rw [hb3.2 q] at c; cases c
      refine ⟨hA, hF, (y, L), hH, fun b9 hb9 σ10 e10 => ?_⟩
      rcases b9 with _ | r11
      · exact absurd (hb9.1 rfl) hne
      · refine ⟨r11, rfl, L, ?_, hne, g1, ?_⟩
        · rw [e10]
          exact List.mem_cons_self
        · rw [e10]
          exact hQ _
  by_cases c1 : lotV L.length p = 0
  · refine Or.inr ⟨0, 0, mU μ 5 3 1, by decide, fun Q X hX => ?_, fun Q hQ => ?_, mU_us⟩
    · unfold wp_X1_entryAt
      refine ⟨hC, hent _ (fun B => x1_in ⟨fun d => absurd c1 d, fun _ => ⟨?_, hX _ (hR.thr 1)⟩⟩)⟩
      show 1 ≤ σ.2.2.1
      omega
    · unfold wp_X6_entryAt
      rw [zc14, g2]
      exact ⟨zv14, x6_in (goes1 c1 ⟨fun _ => hQ, fun d => absurd rfl d⟩)⟩
  obtain ⟨k, hk, rfl⟩ := lotV_j g1 c1
  refine Or.inl ⟨μ 0 (20 + k), mU μ 5 3 0, fun Q X hQ => ?_, fun Q hQ => ?_, mU_us⟩
  · unfold wp_X1_entryAt
    refine ⟨hC, hent _ (fun B => x1_in ⟨fun _ => ⟨hA, hF, (y, L), hH, fun b7 hb7 σ8 e8 => ?_⟩, fun d => absurd d c1⟩)⟩
    have hne : L ≠ [] := fun q => by rw [q] at hk; exact absurd hk (Nat.not_lt_zero _)
    rcases b7 with _ | r9
    · exact absurd (hb7.1 rfl) hne
    · refine ⟨r9, rfl, L, ?_, nI_pos (by omega), ?_, g1, ?_⟩
      · rw [e8]
        exact List.mem_cons_self
      · rw [cl (by omega)]; exact hk
      · have e9 : L.getD k 0 = μ 0 (20 + k) := by
          rw [List.getD_eq_getElem?_getD, g3 k hk]
          rfl
        rw [cl (by omega), e9, e8]
        exact hQ _ (hR.thr 0)
  · unfold wp_X6_entryAt
    have e9 : (20 : Int32) + nI k = nI (20 + k) := nI_add 20 k
    rw [zc14, g2]
    refine ⟨zv14, x6_in (goesY c1 (by decide) ⟨fun d => absurd d (by decide), fun _ => ?_⟩)⟩
    rw [e9, cz (by omega), mU53 (by decide)]
    exact ⟨vz (by omega), hQ⟩
end LK
