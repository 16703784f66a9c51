set_option maxRecDepth 100000
/-! PLAIN: the best air -/
section BA
variable {T T' x out n j q c d k : Nat} {σ σ0 : OS} {μ μ' : MS} {z z' : Zz} {a b p p2 : Int32}
theorem zLot_hi {f : Nat → Int32} {i : Nat} (hk : k < 12) (hi : 153 ≤ i) : zLot z k f i = z i := if_neg (by omega)
theorem zBooks_hi {l : Int32} {i : Nat} (hi : 153 ≤ i) : zBooks z p l i = z i := zBooks_n (by omega) (by omega)
theorem zHL_hi {i : Nat} (hk : k < 12) (hi : 153 ≤ i) : (zHL z k).2 i = z i := by
  unfold zHL
  split
  · exact zLot_hi hk hi
  · split
    · unfold zGrow zGr
      split
      · show zG1 z k _ _ _ i = _
        unfold zG1
        rw [zBooks_hi hi, zLot_hi hk hi, pk_un (by omega), pk_un (by omega)]
      · show zG0 z k _ _ _ i = _
        unfold zG0
        rw [zLot_hi hk hi, pk_un (by omega)]
    · split
      · exact zLot_hi hk hi
      · rfl
theorem zHLs_hi {i : Nat} (hi : 153 ≤ i) : ∀ m, m ≤ 12 → (zHLs z m).2 i = z i
  | 0, _ => rfl
  | m + 1, h => (zHL_hi (by omega) hi).trans (zHLs_hi hi m (by omega))
theorem zMs_hi {i : Nat} (hi : 153 ≤ i) : ∀ m, m ≤ 12 → zMs z m i = z i
  | 0, _ => rfl
  | m + 1, h => by
    have e := zMs_hi hi m (by omega)
    rw [zMs]
    unfold zM1
    split
    · unfold zMalt
      rw [zBooks_hi hi, zLot_hi (by omega) hi, pk_un (by omega), pk_un (by omega)]
      exact e
    · exact e
theorem zHour_hi {i : Nat} (h12 : n ≤ 12) (hi : 153 ≤ i) : (zHour z n).2 i = z i := by
  have a : (zHLs (zT z) n).2 i = z i := (zHLs_hi hi n h12).trans (zT_sc (by omega) (by omega))
  unfold zHour
  split
  · unfold zEnd zMm
    dsimp only
    rw [pk_un (by omega), pk_un (by omega)]
    split
    · rw [pk_un (by omega)]; exact a
    · rw [zMs_hi hi n h12, pk_un (by omega)]; exact a
  · exact a
theorem zHours_hi {i : Nat} (h12 : n ≤ 12) (hi : 153 ≤ i) : ∀ m, (zHours z n m).2 i = z i
  | 0 => rfl
  | m + 1 => (zHour_hi h12 hi).trans (zHours_hi h12 hi m)
theorem b24_hi {i : Nat} (h12 : n ≤ 12) (hd : d < 4) (hi : 153 ≤ i) : (zHours (upd z (32 + 3 * d) a) n 24).2 i = z i := (zHours_hi h12 hi 24).trans (pk_un (by omega))
theorem b24_pe (hd : d < 4) : PE (ofz z j) (ofz (zHours (upd z (32 + 3 * d) a) n 24).2 j) := PE.trans (PE.lot (e := ofz z j) (fun w _ => ofz_sc (by omega)) (PE.refl rfl rfl rfl)) (zHours_pe 24)
/-- the spare array is put back -/
theorem ba_back {μs : MS} (hs : ∀ i, i < 153 → μs 1 i = μs 0 i) (hz : ∀ i, 153 ≤ i → z i = μs 0 i) : cpS (mZ μs z) 1 0 0 0 153 = μs := by
  funext b i
  by_cases hb : b = 0
  · subst hb
    rw [cpS_at]
    by_cases hi : i < 153
    · rw [if_pos (by omega), Nat.sub_zero, Nat.zero_add]
      exact hs i hi
    · rw [if_neg (by omega), mZ_0]
      exact hz i (by omega)
  · rw [cpS_ne hb, mZ_n hb]
theorem mbest_loop {bz : Nat → Zz} {kx : Int32 → Int32 → Int32 → MS → Prop} {μs : MS} (hO : zOK (μs 0) n) (hj : j < n) (hd : d < 4) (hs : ∀ i, i < 153 → μs 1 i = μs 0 i) (hbz : ∀ k, (zHours (upd (μs 0) (32 + 3 * d) (nI k)) n 24).2 = bz k) (hx : kx (baB bz j 4).1 (baB bz j 4).2 (nI 4) μs) : ∀ m F k, k + m = 4 → m < F → wp_X6_bestAir_L62 kx (nI d) (nI j) F (baB bz j k).1 (baB bz j k).2 (nI k) μs := by
  have h12 := hO.2.1
  obtain ⟨i0, i1⟩ := si0 d hd
  intro m
  induction m with
  | zero =>
    intro F k e hF
    obtain ⟨F, rfl⟩ := fpos hF
    obtain rfl : k = 4 := by omega
    rw [wp_X6_bestAir_L62]
    exact ⟨fun _ => hx, fun q => absurd (by decide : (3 : Int32) < nI 4) q⟩
  | succ m ih =>
    intro F k e hF
    obtain ⟨F, rfl⟩ := fpos hF
    rw [wp_X6_bestAir_L62]
    refine ⟨fun q => absurd q (nI_nlt (a := 3) (b := k) (by omega) (by decide)), fun _ => ⟨i0, fun σ22 e22 => ?_⟩⟩
    rw [i1, mU_mZ] at e22
    subst e22
    have hOk : ∀ i, zOK (zHours ((mZ μs (upd (μs 0) (32 + 3 * d) (nI k))) 0) n i).2 n := by
      intro i
      rw [mZ_0]
      refine zOK.hours ⟨(pk_un (by omega)).trans hO.1, h12, fun l hl => ?_⟩ i
      rw [ofz_sc (by omega), ofz_sc (by omega)]
      exact hO.2.2 l hl
    refine x6_hours (n := n) (hs := 24) (by decide) (fun i _ => hOk i) ?_
    rw [mZ_0, mZ_mZ, hbz k]
    have hbh : ∀ i, 153 ≤ i → bz k i = μs 0 i := fun i hi => by
      rw [← hbz k]
      exact b24_hi h12 hd hi
    have e1 := ih F (k + 1) (by omega) (by omega)
    rw [nI_succ] at e1
    refine x6_of1 (w := 6) (by omega) (by decide) ?_
    rw [mZ_0]
    refine jn1 (baV bz j k) (x6_of1 (w := 0) (by omega) (by decide) ?_) (fun k' hk => ⟨fun q => ?_, fun q => ?_⟩)
    · rw [mZ_0]
      have hb : cpS (mZ μs (bz k)) 1 0 0 0 153 = μs := ba_back hs hbh
      refine jn2 (baB bz j (k + 1)).1 (baB bz j (k + 1)).2 (x6_copyState (a1 := 0) (a2 := 0) (by decide) (by decide) (by decide) ?_) (fun k' hk => ⟨fun q => ?_, fun q => ⟨fun q2 => ?_, fun q2 => ?_⟩⟩)
      · rw [hb]
        exact e1
      · rw [baB, if_neg (fun r => q r.1)] at hk
        exact hk
      · rw [baB, if_neg (fun r => r.2 q2)] at hk
        exact hk
      · rw [baB, if_pos ⟨q, q2⟩] at hk
        exact hk
    · unfold baV at hk
      rw [if_pos q] at hk; exact hk
    · unfold baV at hk
      rw [if_neg q] at hk; exact hk
theorem best_loop {bz : Nat → Zz} {kx : Int32 → Int32 → Int32 → OS → Prop} {hA : Nat} {b1 b2 b3 : Value} {y : MS} {L : List Int32} (hX : σ0.1 x = some (.inr (0, [.ref hA, b1, b2, b3]))) (hH : σ0.2.1 hA = some (y, L)) (h1 : RH T y L z n) (h2 : litk z n) (hj : j < n) (hd : d < 4) (h0 : ofz z j 0 = 2) (hT : T + 100 < 2 ^ 30) (hbz : ∀ k, (zHours (upd z (32 + 3 * d) (nI k)) n 24).2 = bz k) (hx : ∀ σ' x8, (∀ r e, σ0.1 r = some e → σ'.1 r = some e) → (∀ a w, σ0.2.1 a = some w → σ'.2.1 a = some w) → kx (baB bz j 4).1 x8 (nI 4) σ') : ∀ m F k σ x8, k + m = 4 → m < F → (∀ r e, σ0.1 r = some e → σ.1 r = some e) → (∀ a w, σ0.2.1 a = some w → σ.2.1 a = some w) → σ.2.2.2.1 = 0 → 400 + 200 * m ≤ σ.2.2.1 → (((baB bz j k).1 = -1 ∧ (baB bz j k).2 = 1000) ∨ ((baB bz j k).1 ≠ -1 ∧ x8 = (baB bz j k).2)) → wp_X1_bestAir_L22 kx (nI d) x (nI j) F (baB bz j k).1 x8 (nI k) σ := by
  have h12 := h1.zOK.2.1
  intro m
  induction m with
  | zero =>
    intro F k σ x8 e hF g1 g2 g3 g4 g5
    obtain ⟨F, rfl⟩ := fpos hF
    obtain rfl : k = 4 := by omega
    rw [wp_X1_bestAir_L22]
    exact ⟨fun _ => hx σ x8 g1 g2, fun q => absurd (by decide : (3 : Int32) < nI 4) q⟩
  | succ m ih =>
    intro F k σ x8 e hF g1 g2 g3 g4 g5
    obtain ⟨F, rfl⟩ := fpos hF
    rw [wp_X1_bestAir_L22]
    refine ⟨fun q => absurd q (nI_nlt (a := 3) (b := k) (by omega) (by decide)), fun _ => ⟨fun q => absurd q.symm (m1_ne (by omega)), fun _ => ?_⟩⟩
    refine CI.begin (T := T) (c := σ.2.2.1 - 180) (z := z) (n := n) ⟨b1, b2, b3, g1 _ _ hX⟩ (g2 _ _ hH) h1 h2 (by omega) (fun q σ22 hI hκ hN => ?_)
    obtain ⟨a1, a2, y', L', a3, a4, a5⟩ := id hI
    refine ⟨(y', L'), a3, (y', L'), a3, vd hd, (y', L'), a3, ?_⟩
    rw [cd hd]
    refine ⟨hd, fun σ25 e25 => ?_⟩
    have hset := RK_set (w := 0) (x := nI k) a4 hd (by decide) (by rw [nI_toInt (by omega)]; omega)
    have hk4 : litk (upd z (32 + 3 * d + 0) (nI k)) n := fun r => by
      rw [pk_un (by omega)] at r
      obtain ⟨l, hl, e⟩ := a5 r
      exact ⟨l, hl, (ofz_sc (by omega)).trans e⟩
    have hI2 := hI.put (s := (mU y' 8 d (nI k), L', σ22.2.2.1)) hset hk4
    have e25' : σ25 = oHc σ22 q (mU y' 8 d (nI k), L', σ22.2.2.1) := e25
    rw [← e25'] at hI2
    obtain ⟨c1, c2, y2, L2, c3, c4, c5⟩ := id hI2
    refine ⟨(y2, L2), c3, x2_pass (hs := 24) (T := T) (c := σ.2.2.1 - 180) (z := upd z (32 + 3 * d + 0) (nI k)) (n := n) (by decide) (by omega) c4 c5 (fun s' p1 p2 σ29 e29 => ?_)⟩
    have hI3 := hI2.put p1 p2
    rw [← e29] at hI3
    have eZ : (zHours (upd z (32 + 3 * d + 0) (nI k)) n 24).2 = bz k := hbz k
    rw [eZ] at hI3
    obtain ⟨d1, d2, y3, L3, d3, d4, d5⟩ := id hI3
    have hEj := d4.1.2.1 j hj
    have hlj := d4.1.2.2.2.2.2.2.2.1 j hj
    have f0 : (y3, L3).1 6 j = ofz (bz k) j 0 := hEj.1
    have f6 : (y3, L3).1 4 j = ofz (bz k) j 6 := hEj.2.2.2.2.2.1
    refine ⟨(y3, L3), d3, (y3, L3), d3, vl (by omega), fun v33 e33 => ⟨(y3, L3), d3, (y3, L3), d3, vl (by omega), ?_⟩⟩
    rw [cl (by omega), f6] at e33
    rw [cl (by omega), f0]
    have hpe : PE (ofz z j) (ofz (bz k) j) := by
      rw [← hbz k]
      exact b24_pe hd
    have hpe := hpe.1
    have hκ29 : 400 + 200 * m ≤ σ29.2.2.1 := by
      have e28 : 12 * lvs (bz k) n + (σ.2.2.1 - 180) ≤ σ29.2.2.1 := d4.2
      omega
    have hN29 : σ29.2.2.2.1 = 0 := by rw [e29]; rfl
    have ih1 := fun x8' h => ih F (k + 1) σ29 x8' (by omega) (by omega) (fun r e hr => d1 _ _ (g1 _ _ hr)) (fun a w hw => (d2 a w (g2 a w hw)).2) hN29 hκ29 h
    rw [nI_succ] at ih1
    by_cases c2' : ofz (bz k) j 0 = 2
    · obtain ⟨hb1, hb2⟩ := hlj.2.2.2.2.2.1 (Or.inl c2')
      obtain ⟨hh, hh1, hh2⟩ := to_nI (x := ofz (bz k) j 6) (n := 42) (by omega) (by omega)
      have hh3 : 10 ≤ hh := by
        rw [hh2, nI_toInt (by omega)] at hb1
        omega
      obtain ⟨t1, t2⟩ := bav_tab hh (by omega) hh3
      rw [← hh2] at t1 t2
      have ev : v33 = baV bz j k := e33.trans t1.symm
      have t3 : ¬ (1000 : Int32) ≤ baV bz j k := t2
      have n6 : ¬ ofz (bz k) j 0 = 6 := by rw [c2']; decide
      by_cases cb : (baB bz j k).2 ≤ baV bz j k
      · have nB : baB bz j (k + 1) = baB bz j k := by rw [baB, if_neg (fun r => r.2 cb)]
        rw [nB] at ih1
        rcases g5 with ⟨r1, r2⟩ | ⟨r1, r2⟩
        · rw [r2] at cb
          exact absurd cb t3
        · refine jnI ⟨fun q => absurd q n6, fun _ => ⟨fun q => absurd q r1, fun _ => ⟨fun _ => jnI ⟨fun _ => jnI ⟨fun _ => ih1 x8 (Or.inr ⟨r1, r2⟩), fun q => absurd rfl q⟩, fun q => absurd rfl q⟩, fun q => ?_⟩⟩⟩
          rw [r2, ev] at q
          exact absurd cb q
      · have nB : baB bz j (k + 1) = (nI k, baV bz j k) := by rw [baB, if_pos ⟨c2', cb⟩]
        rw [nB] at ih1
        have hne : nI k ≠ -1 := fun q => m1_ne (k := k) (by omega) q.symm
        have good := ih1 v33 (Or.inr ⟨hne, ev⟩)
        refine jnI ⟨fun q => absurd q n6, fun _ => ⟨fun _ => jnI ⟨fun q => absurd q (by decide), fun _ => jnI ⟨fun q => absurd q (by decide), fun _ => good⟩⟩, fun r1 => ⟨fun q => ?_, fun _ => jnI ⟨fun q => absurd q (by decide), fun _ => jnI ⟨fun q => absurd q (by decide), fun _ => good⟩⟩⟩⟩⟩
        rcases g5 with ⟨s1, s2⟩ | ⟨s1, s2⟩
        · exact absurd s1 r1
        · rw [s2, ev] at q
          exact absurd q cb
    · have c6 : ofz (bz k) j 0 = 6 := by
        rcases hpe with ⟨r, -⟩ | ⟨-, r⟩ | ⟨r, -⟩
        · exact absurd (r.trans h0) c2'
        · exact r
        · rw [h0] at r; exact absurd r (by decide)
      have nB : baB bz j (k + 1) = baB bz j k := by rw [baB, if_neg (fun r => c2' r.1)]
      rw [nB] at ih1
      exact jnI ⟨fun _ => jnI ⟨fun _ => jnI ⟨fun _ => ih1 x8 g5, fun q => absurd rfl q⟩, fun q => absurd rfl q⟩, fun q => absurd c6 q⟩
theorem sim_bestAir (hR : RO T x out σ.1 σ.2.1 μ) (hκ : σ.2.2.1 = 5000) (hN : σ.2.2.2.1 = 0) (hT : T + 300 < 2 ^ 30) : Sim T x out (wp_X1_bestAir x p σ) (wp_X6_bestAir p μ) cd0 := by
  obtain ⟨hA, b1, b2, b3, y, L, n, hX, hH, h1, h2⟩ := hR.fields
  have hF : oF σ x 0 0 (.ref hA) := ⟨_, hX, rfl⟩
  have hC : oC σ x 0 := ⟨_, hX⟩
  have h12 := h1.zOK.2.1
  have h7 := h1.zOK.1
  have hz : (mU μ 5 3 0) 0 = μ 0 := mU53 (by decide)
  by_cases c1 : lotV n p = 0
  · refine Or.inr ⟨0, 0, mU μ 5 3 1, by decide, fun Q X hX => ?_, fun Q hQ => ?_, mU_us⟩
    · unfold wp_X1_bestAir
      exact ⟨hC, x1_needLot hF hH h1.lots hN (by omega) (fun d => absurd c1 d) (fun _ => hX (oXs σ 0) (hR.thr 1))⟩
    · unfold wp_X6_bestAir
      exact x6_isLot h7 (goes1 c1 ⟨fun d => absurd rfl d, fun _ => hQ⟩)
  obtain ⟨j, hj, rfl⟩ := lotV_j h12 c1
  have hlj := h1.2.2.2.2.2.2.2.1 j hj
  have hD := h1.2.2.2.2.1
  by_cases c2 : ofz (μ 0) j 0 = 2
  · obtain ⟨d, hd, ed⟩ := hlj.1 c2
    have hz1 : cpS (mU μ 5 3 0) 0 0 1 0 153 0 = μ 0 := (cpS_ne (by decide)).trans hz
    obtain ⟨bz, hbz⟩ : ∃ bz : Nat → Zz, ∀ k, (zHours (upd (μ 0) (32 + 3 * d) (nI k)) n 24).2 = bz k := ⟨_, fun k => rfl⟩
    refine Or.inl ⟨(baB bz j 4).1, cpS (mU μ 5 3 0) 0 0 1 0 153, fun Q X hQ => ?_, fun Q hQ => ?_, ?_⟩
    · unfold wp_X1_bestAir
      refine ⟨hC, x1_needLot hF hH h1.lots hN (by omega) (fun _ => ⟨hA, hF, (y, L), hH, x2_drumOf (s := (y, L, σ.2.2.1)) hD hlj.lj hj (fun σ5 e5 => ?_)⟩) (fun d => absurd d c1)⟩
      rw [oHc_same (w := (y, L)) hN hH] at e5
      rw [e5, ed]
      refine jnI (best_loop (T := T) (σ0 := σ) (z := μ 0) (n := n) (kx := fun x12 _ _ σ15 => Q x12 σ15) hX hH h1 h2 hj hd c2 (by omega) hbz (fun σ' _ g1 g2 => hQ σ' ?_) 4 mF 0 σ 0 (by omega) (by unfold mF; omega) (fun _ _ h => h) (fun _ _ h => h) hN (by omega) (Or.inl ⟨rfl, rfl⟩))
      refine hR.ext (Nat.le_refl _) g1 g2 (fun i _ => by rw [hz1]) (fun i _ => ?_) (fun i _ => ?_) (fun i _ => ?_) (fun i hi => ?_)
      · rw [cpS_ne (by decide), mU_at (by omega)]
      · rw [cpS_ne (by decide), mU_at (by omega)]
      · rw [cpS_ne (by decide), mU_at (by omega)]
      · rw [cpS_ne (by decide), mU_at (by omega)]
    · unfold wp_X6_bestAir
      refine x6_isLot h7 (goesY c1 (by decide) ⟨fun _ => x6_of1 (w := 0) (by omega) (by decide) ⟨fun _ => x6_of1 (w := 1) (by omega) (by decide) ?_, fun q => ?_⟩, fun d => absurd d (by decide)⟩)
      · rw [hz, ed]
        refine x6_copyState (a1 := 0) (a2 := 0) (by decide) (by decide) (by decide) (jnI ?_)
        have e := mbest_loop (kx := fun x17 _ _ σ20 => Q x17 σ20) (μs := cpS (mU μ 5 3 0) 0 0 1 0 153) (n := n) (j := j) (d := d) (by rw [hz1]; exact h1.zOK) hj hd (fun i hi => ?_) (by rw [hz1]; exact hbz) hQ 4 mF 0 (by omega) (by unfold mF; omega)
        · exact e
        · rw [hz1, cpS_at, if_pos (by omega), Nat.sub_zero, Nat.zero_add, hz]
      · rw [hz] at q
        exact absurd c2 q
    · rw [cpS_ne (by decide)]
      exact mU_us
  · refine Or.inl ⟨-1, mU μ 5 3 0, fun Q X hQ => ?_, fun Q hQ => ?_, mU_us⟩
    · unfold wp_X1_bestAir
      refine ⟨hC, x1_needLot hF hH h1.lots hN (by omega) (fun _ => ⟨hA, hF, (y, L), hH, x2_drumOf (s := (y, L, σ.2.2.1)) hD hlj.lj hj (fun σ5 e5 => ?_)⟩) (fun d => absurd d c1)⟩
      rw [oHc_same (w := (y, L)) hN hH] at e5
      rw [e5, hlj.2.1 c2]
      refine jnI ?_
      show wp_X1_bestAir_L22 _ _ _ _ (999 + 1) _ _ _ _
      rw [wp_X1_bestAir_L22]
      exact ⟨fun _ => hQ σ (hR.thr 0), fun _ => ⟨fun _ => hQ σ (hR.thr 0), fun d => absurd rfl d⟩⟩
    · unfold wp_X6_bestAir
      refine x6_isLot h7 (goesY c1 (by decide) ⟨fun _ => x6_of1 (w := 0) (by omega) (by decide) ⟨fun q => ?_, fun _ => hQ⟩, fun d => absurd d (by decide)⟩)
      rw [hz] at q
      exact absurd q c2
end BA
