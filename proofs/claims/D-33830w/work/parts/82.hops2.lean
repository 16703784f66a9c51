set_option maxRecDepth 100000
/-! PLAIN: the house's changes are the model's -/
theorem ne2 {a p q x : Int32} (h : a = p ∨ a = q) (h1 : x ≠ p) (h2 : x ≠ q) : a ≠ x := fun e => h.elim (fun r => h1 (e.symm.trans r)) (fun r => h2 (e.symm.trans r))
theorem ne3 {a p q t x : Int32} (h : a = p ∨ a = q ∨ a = t) (h1 : x ≠ p) (h2 : x ≠ q) (h3 : x ≠ t) : a ≠ x := fun e => h.elim (fun r => h1 (e.symm.trans r)) (fun h => h.elim (fun r => h2 (e.symm.trans r)) (fun r => h3 (e.symm.trans r)))
section HC
variable {n j T c : Nat} {y y' : MS} {s : HS} {L : List Int32} {z z' : Zz} {f g : Nat → Int32}
theorem RK_bring {y'' : MS} {p d : Int32} (hR : RK T (c + 12) s z n) (hj : j < n) (f5 : ofz z j 0 ≠ 5) (f6 : ofz z j 0 ≠ 6) (p5 : p ≠ 5) (p6 : p ≠ 6) (hLI : LI (upd (upd (ofz z j) 0 p) 1 d)) (hy : ∀ b i, b ≠ 7 → y'' b i = hLot s.1 j (upd (ofz z j) 0 p) b i) (hD' : ED y'' (zBring z j p d) n) : RK T c (y'', (100 * s.1 11 2 + 12 * p + nI j) :: s.2.1.take 11, s.2.2 - 12) (zBring z j p d) n := by
  obtain ⟨hH, hc⟩ := hR
  obtain ⟨h0, hE, hS, hG, hD, hB, hI⟩ := id hH
  obtain ⟨⟨h12, h7⟩, hl, -⟩ := id hI
  have hz : ∀ k w, w < 9 → ofz (zBring z j p d) k w = if k = j then upd (upd (ofz z j) 0 p) 1 d w else ofz z k w := fun k w hw => ofz_bring hw
  have hs : ∀ i, i ≠ 14 → (i < 20 ∨ (32 ≤ i ∧ i < 44)) → zBring z j p d i = z i := fun i h1 h2 => zBring_sc h1 h2
  have g0 : upd (upd (ofz z j) 0 p) 1 d 0 = p := by rw [pk_un (by decide), pk_us]
  have g8 : upd (upd (ofz z j) 0 p) 1 d 8 = ofz z j 8 := by rw [pk_un (by decide), pk_un (by decide)]
  have hE1 : E1 y'' (upd (upd (ofz z j) 0 p) 1 d) j := by
    refine E1_1 ?_
    obtain ⟨e6, e0, e1, e2, e3, e4, e5⟩ := hLot_E1 (y := s.1) (j := j) (f := upd (ofz z j) 0 p)
    exact ⟨(hy 6 j (by decide)).trans e6, (hy 0 j (by decide)).trans e0, (hy 1 j (by decide)).trans e1, (hy 2 j (by decide)).trans e2, (hy 3 j (by decide)).trans e3, (hy 4 j (by decide)).trans e4, (hy 5 j (by decide)).trans e5⟩
  refine ⟨⟨h0.same (fun i _ _ => (hy 11 i (by decide)).trans (hLot_b (by decide))) (fun i hi => hs i (by omega) (by omega)), hE.lot hE1 (fun b i hb hi => (hy b i (by omega)).trans (hLot_ne hi)) hz, hS.same (fun b i h1 _ => (hy b i (by omega)).trans (hLot_b (by omega))) (fun i h1 h2 => hs i (by omega) (by omega)), hG.lot8 ((hy 11 0 (by decide)).trans (hLot_b (by decide))) hz g8, hD', ?_, hI.lot0 hj hz hLI (fun i hi => hs i (by omega) (by omega)) f5 f6 (by rw [g0]; exact p5) (by rw [g0]; exact p6)⟩, ?_⟩
  · unfold zBring
    refine EB.note hB (zLot_sc (by decide)) (fun i h1 h2 => zLot_sc (by omega)) ?_
    rw [zLot_sc (by decide)]
    exact h0.1.symm
  · have := lvs_lot hj hz
    rw [if_neg (fun q => q.elim f5 f6), if_neg (by rw [g0]; exact fun q => q.elim p5 p6)] at this
    show 12 * lvs (zBring z j p d) n + c ≤ s.2.2 - 12
    omega
theorem litk_lot (hk : litk z n) (h4 : ofz z j 0 ≠ 4) (h1 : z' 1 = z 1) (hz : ∀ k w, w < 9 → ofz z' k w = if k = j then g w else ofz z k w) : litk z' n := by
  intro q
  obtain ⟨k, hk1, e⟩ := hk (h1.symm.trans q)
  refine ⟨k, hk1, ?_⟩
  have hn : k ≠ j := fun x => h4 (by rw [← x]; exact e)
  rw [hz k 0 (by decide), if_neg hn]
  exact e
theorem litk_bring {p d : Int32} (hk : litk z n) (h4 : ofz z j 0 ≠ 4) : litk (zBring z j p d) n :=
  litk_lot hk h4 (zBring_sc (by decide) (by decide)) (fun k w hw => ofz_bring hw)
theorem ED_bring {p : Int32} (hD : ED y z n) (hl : LJ (ofz z j)) (h12 : n ≤ 12) (hj : j < n) (p2 : p ≠ 2) : ED (hLot (lvD y z j) j g) (zBring z j p (-1)) n :=
  ED.left hD hl h12 hj (fun d _ => hLot_b (by decide)) (fun k w hw => ofz_bring hw) (by rw [pk_un (by decide), pk_us]; exact p2)
/-- to the steep, a heap, the kiln -/
theorem x2_bringR {p : Int32} {Q : HS → Prop} (hR : RK T (c + 12) s z n) (hj : j < n) (f5 : ofz z j 0 ≠ 5) (f6 : ofz z j 0 ≠ 6) (p2 : p ≠ 2) (p5 : p ≠ 5) (p6 : p ≠ 6) (hLI : LI (upd (upd (ofz z j) 0 p) 1 (-1))) (h : ∀ s', RK T c s' (zBring z j p (-1)) n → Q s') : wp_X2_bring (nI j) p s Q := by
  obtain ⟨hH, hc⟩ := id hR
  obtain ⟨h0, hE, hS, hG, hD, hB, hI⟩ := id hH
  obtain ⟨⟨h12, h7⟩, hl, -⟩ := id hI
  refine x2_bring hD (hl j hj).lj h12 hj (hE j hj) (by omega) hB.1 (h _ (RK_bring hR hj f5 f6 p5 p6 hLI (fun b i hb => ?_) (ED_bring hD (hl j hj).lj h12 hj p2)))
  by_cases e : i = j
  · subst e
    unfold hLot
    rw [if_pos rfl, if_pos rfl, lvD_n hb]
  · rw [hLot_ne e, hLot_ne e, lvD_n hb]
theorem LI_steep (h : LI f) (h0 : f 0 = 0) : LI (upd (upd f 0 1) 1 (-1)) := by
  obtain ⟨a1, a2, a3, a4, a5, a6, a7⟩ := h
  have e : ∀ w, w ≠ 0 → w ≠ 1 → upd (upd f 0 1) 1 (-1) w = f w := fun w h1 h2 => by rw [pk_un h2, pk_un h1]
  unfold LI
  rw [e 4 (by decide) (by decide), e 5 (by decide) (by decide), e 6 (by decide) (by decide), e 8 (by decide) (by decide), show upd (upd f 0 1) 1 (-1) 0 = 1 from by rw [pk_un (by decide), pk_us], show upd (upd f 0 1) 1 (-1) 1 = -1 from pk_us]
  exact ⟨fun q => absurd q (by decide), fun _ => rfl, a3, fun _ => a4 (Or.inl h0), a5, fun q => absurd q (by decide), a7⟩
theorem ht_ok {x : Int32} (h : x = 14 ∨ x = 15) : 10 ≤ x.toInt ∧ x.toInt ≤ 42 := by
  rcases h with q | q <;> rw [q] <;> decide
theorem LI_bed {p d : Int32} (h : LI f) (h0 : f 0 = 1 ∨ f 0 = 2 ∨ f 0 = 3) (hp : p = 2 ∨ p = 3) (hd : p = 2 → ∃ e, e < 4 ∧ d = nI e) (hd2 : p ≠ 2 → d = -1) : LI (upd (upd f 0 p) 1 d) := by
  obtain ⟨a1, a2, a3, a4, a5, a6, a7⟩ := h
  have e : ∀ w, w ≠ 0 → w ≠ 1 → upd (upd f 0 p) 1 d w = f w := fun w h1 h2 => by rw [pk_un h2, pk_un h1]
  unfold LI
  rw [e 4 (by decide) (by decide), e 5 (by decide) (by decide), e 6 (by decide) (by decide), e 8 (by decide) (by decide), show upd (upd f 0 p) 1 d 0 = p from by rw [pk_un (by decide), pk_us], show upd (upd f 0 p) 1 d 1 = d from pk_us]
  refine ⟨hd, hd2, a3, fun q => ?_, a5, fun _ => ?_, a7⟩
  · rcases hp with r | r <;> rcases q with q | q <;> rw [r] at q <;> exact absurd q (by decide)
  · rcases h0 with q | q | q
    · exact ht_ok (a4 (Or.inr q)).2
    · exact a6 (Or.inl q)
    · exact a6 (Or.inr q)
theorem LI_kiln (h : LI f) : LI (upd (upd f 0 4) 1 (-1)) := by
  obtain ⟨a1, a2, a3, a4, a5, a6, a7⟩ := h
  have e : ∀ w, w ≠ 0 → w ≠ 1 → upd (upd f 0 4) 1 (-1) w = f w := fun w h1 h2 => by rw [pk_un h2, pk_un h1]
  unfold LI
  rw [e 4 (by decide) (by decide), e 5 (by decide) (by decide), e 6 (by decide) (by decide), e 8 (by decide) (by decide), show upd (upd f 0 4) 1 (-1) 0 = 4 from by rw [pk_un (by decide), pk_us], show upd (upd f 0 4) 1 (-1) 1 = -1 from pk_us]
  exact ⟨fun q => absurd q (by decide), fun _ => rfl, a3, fun q => absurd q (by decide), a5, fun q => absurd q (by decide), a7⟩
theorem ne_of {a b c : Int32} (h : a = b) (h2 : b ≠ c) : a ≠ c := fun q => h2 (h.symm.trans q)
theorem x2_steep {Q : Int32 → HS → Prop} (hR : RK T (c + 12) s z n) (hk : litk z n) (hj : j < n) (h0 : ofz z j 0 = 0) (h : ∀ s', RK T c s' (zSteep z j) n → litk (zSteep z j) n → Q (zSteep z j 8) s') : wp_X2_steep (nI j) s Q := by
  have h12 := hR.1.zOK.2.1
  have hlj := hR.1.2.2.2.2.2.2.2.1 j hj
  unfold wp_X2_steep
  rw [cl (by omega)]
  refine x2_bringR hR hj (ne_of h0 (by decide)) (ne_of h0 (by decide)) (by decide) (by decide) (by decide) (LI_steep hlj h0) (fun s' hR' => ⟨vl (by omega), fun s2 e2 => ?_⟩)
  obtain ⟨q0, qE, -, -, -, -, qI⟩ := id hR'.1
  have e8 : s'.1 11 9 = z 8 := q0.2.2.2.2.2.2.2.2.1.trans (zBring_sc (by decide) (by decide))
  have e0 : s'.1 0 j = ofz z j 2 := by
    rw [(qE j hj).2.1, ofz_bring (by decide), if_pos rfl, pk_un (by decide), pk_un (by decide)]
  rw [e8, e0] at e2
  have hf : RK T c s2 (zSteep z j) n := by
    rw [e2]
    unfold zSteep
    obtain ⟨-, -, i1, i2, i3, -⟩ := qI
    refine hR'.scal (y' := mU s'.1 11 9 (z 8 + ofz z j 2)) (q0.one 9 8 (by decide) (mU_us.trans pk_us.symm) (fun i _ _ hi => mU_at (by omega)) (fun i _ hi => pk_un hi)) (fun b i hb => mU_at (by omega)) (mU_at (by decide)) (fun i hi => pk_un (by omega)) (fun i hi => pk_un (by omega)) ?_ ?_ ?_
    · rw [pk_un (by decide)]; exact i1
    · rw [pk_un (by decide)]; exact i2
    · rw [pk_un (by decide), pk_un (by decide)]; exact i3
  have hv : s2.1 11 9 = zSteep z j 8 := hf.1.1.2.2.2.2.2.2.2.2.1
  rw [hv]
  refine h s2 hf (fun q => ?_)
  have hk2 := litk_bring (j := j) (p := 1) (d := -1) hk (ne_of h0 (by decide))
  have q' : zBring z j 1 (-1) 1 = 1 := (pk_un (by decide)).symm.trans q
  obtain ⟨k, hk1, e⟩ := hk2 q'
  exact ⟨k, hk1, (ofz_sc (by decide)).trans e⟩
theorem x2_toHeap {Q : Int32 → HS → Prop} (hR : RK T (c + 12) s z n) (hk : litk z n) (hj : j < n) (h0 : ofz z j 0 = 1 ∨ ofz z j 0 = 2) (h : ∀ s', RK T c s' (zBring z j 3 (-1)) n → litk (zBring z j 3 (-1)) n → Q (zcnt (zBring z j 3 (-1)) n 3) s') : wp_X2_toHeap (nI j) s Q := by
  have h12 := hR.1.zOK.2.1
  have hlj := hR.1.2.2.2.2.2.2.2.1 j hj
  have hn : ∀ x : Int32, x ≠ 1 → x ≠ 2 → ofz z j 0 ≠ x := fun x h1 h2 => ne2 h0 h1 h2
  unfold wp_X2_toHeap
  refine x2_bringR hR hj (hn _ (by decide) (by decide)) (hn _ (by decide) (by decide)) (by decide) (by decide) (by decide) (LI_bed hlj (h0.elim Or.inl (fun q => Or.inr (Or.inl q))) (Or.inr rfl) (fun q => absurd q (by decide)) (fun _ => rfl)) (fun s' hR' => x2_set hR'.1.lots hR'.1.2.1 h12 (j16_bitCount ?_))
  rw [bc_cnt _ 3 h12]
  exact h s' hR' (litk_bring hk (hn _ (by decide) (by decide)))
theorem x2_load {Q : Int32 → HS → Prop} (hR : RK T (c + 12) s z n) (hk : litk z n) (hj : j < n) (h0 : ofz z j 0 = 2 ∨ ofz z j 0 = 3) (h : ∀ s', RK T c s' (zBring z j 4 (-1)) n → litk (zBring z j 4 (-1)) n → Q (zwgt (zBring z j 4 (-1)) n 4) s') : wp_X2_load (nI j) s Q := by
  have h12 := hR.1.zOK.2.1
  have hlj := hR.1.2.2.2.2.2.2.2.1 j hj
  have hn : ∀ x : Int32, x ≠ 2 → x ≠ 3 → ofz z j 0 ≠ x := fun x h1 h2 => ne2 h0 h1 h2
  unfold wp_X2_load
  refine x2_bringR hR hj (hn _ (by decide) (by decide)) (hn _ (by decide) (by decide)) (by decide) (by decide) (by decide) (LI_kiln hlj) (fun s' hR' => x2_weightIn hR'.1.lots hR'.1.2.1 h12 (h s' hR' (litk_bring hk (hn _ (by decide) (by decide)))))
theorem x2_toDrum {d : Nat} {Q : Int32 → HS → Prop} (hR : RK T (c + 12) s z n) (hk : litk z n) (hj : j < n) (hd : d < 4) (h0 : ofz z j 0 = 1 ∨ ofz z j 0 = 2 ∨ ofz z j 0 = 3) (hno : s.1 7 d = -1) (h : ∀ s', RK T c s' (zBring z j 2 (nI d)) n → litk (zBring z j 2 (nI d)) n → Q (ofz (zBring z j 2 (nI d)) j 4) s') : wp_X2_toDrum (nI j) (nI d) s Q := by
  obtain ⟨hH, hc⟩ := id hR
  obtain ⟨e0, hE, hS, hG, hD, hB, hI⟩ := id hH
  obtain ⟨⟨h12, h7⟩, hl, -⟩ := id hI
  have hlj := hl j hj
  have hn : ∀ x : Int32, x ≠ 1 → x ≠ 2 → x ≠ 3 → ofz z j 0 ≠ x := fun x h1 h2 h3 => ne3 h0 h1 h2 h3
  unfold wp_X2_toDrum
  rw [cd hd, cl (show j < 12 by omega)]
  refine x2_bring hD hlj.lj h12 hj (hE j hj) (by omega) hB.1 ⟨vd hd, hd, fun s2 e2 => ⟨vl (by omega), ?_⟩⟩
  rw [hU_s (by decide)] at e2
  obtain ⟨a1, a2, a3⟩ := lvD_1 hD hlj.lj h12 hj
  have hy7 : ∀ e, e < 4 → hLot (mU (lvD s.1 z j) 7 d (nI j)) j (upd (ofz z j) 0 2) 7 e = if e = d then nI j else lvD s.1 z j 7 e := fun e _ => by
    rw [hLot_b (by decide)]
    by_cases q : e = d
    · rw [if_pos q, q, mU_us]
    · rw [if_neg q, mU_at (by omega)]
  have hlv : ∀ k, k < n → k ≠ j → lvD s.1 z j 7 d ≠ nI k := fun k hk1 hkn q => by
    have := (a2 d k hd hk1 hkn).1 q
    rw [hno] at this
    exact m1_ne (by omega) this
  have hf : RK T c s2 (zBring z j 2 (nI d)) n := by
    rw [e2]
    refine RK_bring hR hj (hn _ (by decide) (by decide) (by decide)) (hn _ (by decide) (by decide) (by decide)) (by decide) (by decide) (LI_bed hlj h0 (Or.inl rfl) (fun _ => ⟨d, hd, rfl⟩) (fun q => absurd rfl q)) (fun b i hb => ?_) ⟨fun e k he hk1 => ?_, fun e he => ?_⟩
    · by_cases e : i = j
      · subst e
        unfold hLot
        rw [if_pos rfl, if_pos rfl, mU_at (by omega), lvD_n hb]
      · rw [hLot_ne e, hLot_ne e, mU_at (by omega), lvD_n hb]
    · rw [hy7 e he, ofz_bring (by decide), ofz_bring (by decide)]
      by_cases ek : k = j
      · rw [if_pos ek, if_pos ek, ek, pk_un (by decide), pk_us, pk_us]
        by_cases q : e = d
        · rw [if_pos q, q]
          exact ⟨fun _ => ⟨rfl, rfl⟩, fun _ => rfl⟩
        · rw [if_neg q]
          exact ⟨fun r => absurd r (a1 e he), fun r => absurd ((nI_eq (by omega) (by omega)).1 r.2).symm q⟩
      · rw [if_neg ek, if_neg ek]
        by_cases q : e = d
        · rw [if_pos q, q]
          refine ⟨fun r => absurd ((nI_eq (by omega) (by omega)).1 r).symm ek, fun r => ?_⟩
          have := (hD.1 d k hd hk1).2 r
          rw [hno] at this
          exact absurd this (m1_ne (by omega))
        · rw [if_neg q, a2 e k he hk1 ek]
          exact hD.1 e k he hk1
    · rw [hy7 e he]
      by_cases q : e = d
      · rw [if_pos q]
        exact Or.inr ⟨j, hj, rfl⟩
      · rw [if_neg q]
        exact a3 e he
  rw [(hf.1.2.1 j hj).2.2.2.1]
  exact h s2 hf (litk_bring hk (hn _ (by decide) (by decide) (by decide)))
theorem x2_light {Q : Int32 → HS → Prop} (hR : RK T c s z n) (h1 : z 1 = 0) (h4 : ¬ zcnt z n 4 ≤ 0) (h : ∀ s', RK T c s' (upd z 1 1) n → litk (upd z 1 1) n → Q (zcnt (upd z 1 1) n 4) s') : wp_X2_light s Q := by
  have h12 := hR.1.zOK.2.1
  obtain ⟨q0, qE, -, -, -, -, qI⟩ := id hR.1
  obtain ⟨-, -, i1, ⟨t, ht, et⟩, i3, -⟩ := qI
  have z2 := i3 h1
  unfold wp_X2_light
  intro s1 e1 s2 e2
  subst e1
  have hf : RK T c s2 (upd z 1 1) n := by
    rw [e2]
    refine hR.scal (y' := mU (mU s.1 11 3 1) 11 4 0) (E0.one 4 2 (by decide) (y := mU s.1 11 3 1) (z := upd z 1 1) (q0.one 3 1 (by decide) (mU_us.trans pk_us.symm) (fun i _ _ hi => mU_at (by omega)) (fun i _ hi => pk_un hi)) (mU_us.trans (z2.symm.trans (pk_un (by decide)).symm)) (fun i _ _ hi => mU_at (by omega)) (fun i _ hi => rfl)) (fun b i hb => (mU_at (by omega)).trans (mU_at (by omega))) ((mU_at (by decide)).trans (mU_at (by decide))) (fun i hi => pk_un (by omega)) (fun i hi => pk_un (by omega)) ?_ ?_ ?_
    · rw [pk_us]; exact Or.inr rfl
    · rw [pk_un (by decide)]; exact ⟨t, ht, et⟩
    · intro _
      rw [pk_un (by decide)]
      exact z2
  refine x2_set hf.1.lots hf.1.2.1 h12 (j16_bitCount ?_)
  rw [bc_cnt _ 4 h12]
  refine h s2 hf (fun _ => Classical.byContradiction fun q => h4 ?_)
  have e3 : cntN z 4 n = 0 := (cntN_0 z 4 n).2 (fun j hj e => q ⟨j, hj, (ofz_sc (by decide)).trans e⟩)
  rw [zcnt_N, e3]
  exact Int32.le_refl _
theorem wet_tab : ∀ k, k < 49 → 3 ≤ k → imst (nI k) (ilst 48 (nI k + 3)) = ilst 48 (nI k + 3) ∧ 3 ≤ (ilst 48 (nI k + 3)).toInt ∧ (ilst 48 (nI k + 3)).toInt ≤ 48 ∧ nI k ≤ 48 := by decide +kernel
theorem het_tab : ∀ k, k < 43 → 10 ≤ k → ilst (nI k) (imst 10 (nI k - 2)) = imst 10 (nI k - 2) ∧ 10 ≤ (imst 10 (nI k - 2)).toInt ∧ (imst 10 (nI k - 2)).toInt ≤ 42 ∧ 10 ≤ nI k := by decide +kernel
theorem x2_spray {Q : Int32 → HS → Prop} (hR : RK T (c + 12) s z n) (hk : litk z n) (hj : j < n) (h0 : ofz z j 0 = 2 ∨ ofz z j 0 = 3) (h : ∀ s', RK T c s' (zWets z j) n → litk (zWets z j) n → Q (zWets z j 6) s') : wp_X2_spray (nI j) s Q := by
  obtain ⟨hH, hc⟩ := id hR
  obtain ⟨e0, hE, hS, hG, hD, hB, hI⟩ := id hH
  obtain ⟨⟨h12, h7⟩, hl, -⟩ := id hI
  have hlj := hl j hj
  have hn : ∀ x : Int32, x ≠ 2 → x ≠ 3 → ofz z j 0 ≠ x := fun x h1 h2 => ne2 h0 h1 h2
  have f5 := hn 5 (by decide) (by decide)
  have f6 := hn 6 (by decide) (by decide)
  obtain ⟨a1, a2, a3, a4, a5, a6, a7⟩ := id hlj
  have b6 := a6 h0
  obtain ⟨k4, hk4, ek4⟩ := to_nI (x := ofz z j 4) (n := 48) (by omega) (by omega)
  obtain ⟨k6, hk6, ek6⟩ := to_nI (x := ofz z j 6) (n := 42) (by omega) (by omega)
  have w4 := wet_tab k4 (by omega) (by rw [ek4, nI_toInt (by omega)] at a3; omega)
  have w6 := het_tab k6 (by omega) (by rw [ek6, nI_toInt (by omega)] at b6; omega)
  rw [← ek4] at w4
  rw [← ek6] at w6
  have eW : wetF (ofz z j) = upd (upd (ofz z j) 4 (ilst 48 (ofz z j 4 + 3))) 6 (imst 10 (ofz z j 6 - 2)) := by
    unfold wetF
    rw [if_pos w4.2.2.2, if_pos w6.2.2.2]
  unfold wp_X2_spray
  rw [cl (by omega)]
  have hv : vp_in (nI j) 12 := vl (by omega)
  obtain ⟨p6, p0, p1, p2, p3, p4, p5⟩ := hE j hj
  have es : s = (hLot s.1 j (ofz z j), s.2) := by rw [hLot_self (hE j hj)]
  refine ⟨hv, hv, fun v1 e1 v2 e2 => ⟨hv, fun s3 e3 => ⟨hv, hv, fun v4 e4 v5 e5 => ⟨hv, fun s6 e6 s7 e7 s8 e8 => ?_⟩⟩⟩⟩
  rw [p2, iMin_eq] at e1
  rw [p2, e1, iMax_eq, w4.1] at e2
  rw [e2, es, hU_2] at e3
  subst e3
  have r6 : (hLot s.1 j (upd (ofz z j) 4 (ilst 48 (ofz z j 4 + 3))), s.2).1 4 j = ofz z j 6 := by
    show hLot s.1 j (upd (ofz z j) 4 (ilst 48 (ofz z j 4 + 3))) 4 j = _
    rw [hLot_4, pk_un (by decide)]
  rw [r6, iMax_eq] at e4
  rw [r6, e4, iMin_eq, w6.1] at e5
  rw [e5, hU_4, ← eW] at e6
  subst e6
  have r8 : (hLot s.1 j (wetF (ofz z j)), s.2).1 11 8 = z 6 := by
    show hLot s.1 j (wetF (ofz z j)) 11 8 = _
    rw [hLot_b (by decide)]
    exact e0.2.2.2.2.2.2.1
  rw [r8, hU_s (by decide)] at e7
  subst e7
  have r11 : (hLot (mU s.1 11 8 (z 6 - 1)) j (wetF (ofz z j)), s.2).1 11 11 = z 13 := by
    show hLot (mU s.1 11 8 (z 6 - 1)) j (wetF (ofz z j)) 11 11 = _
    rw [hLot_b (by decide), mU_at (by decide)]
    exact e0.2.2.2.2.2.2.2.2.2.2
  rw [r11, hU_s (by decide)] at e8
  subst e8
  unfold wp_X2_note hNote
  refine ⟨by show 12 ≤ s.2.2; omega, hB.1, ?_⟩
  have hz : ∀ k w, w < 9 → ofz (zWets z j) k w = if k = j then wetF (ofz z j) w else ofz z k w := fun k w hw => by
    unfold zWets
    rw [ofz_books, ofz_lot hw, ofz_sc (by decide), ofz_sc (by decide)]
  have hs : ∀ i, i ≠ 6 → i ≠ 13 → i ≠ 14 → (i < 20 ∨ 32 ≤ i) → i < 44 → zWets z j i = z i := fun i h1 h2 h3 h4 h5 => by
    unfold zWets
    rw [zBooks_n h3 (by omega), zLot_sc h5, pk_un h2, pk_un h1]
  have g0 : wetF (ofz z j) 0 = ofz z j 0 := by rw [eW, pk_un (by decide), pk_un (by decide)]
  have g1 : wetF (ofz z j) 1 = ofz z j 1 := by rw [eW, pk_un (by decide), pk_un (by decide)]
  have g8 : wetF (ofz z j) 8 = ofz z j 8 := by rw [eW, pk_un (by decide), pk_un (by decide)]
  have hLI : LI (wetF (ofz z j)) := by
    have q4 : wetF (ofz z j) 4 = ilst 48 (ofz z j 4 + 3) := by rw [eW, pk_un (by decide), pk_us]
    have q5 : wetF (ofz z j) 5 = ofz z j 5 := by rw [eW, pk_un (by decide), pk_un (by decide)]
    have q6 : wetF (ofz z j) 6 = imst 10 (ofz z j 6 - 2) := by rw [eW, pk_us]
    unfold LI
    rw [g0, g1, q4, q5, q6, g8]
    refine ⟨a1, a2, ⟨w4.2.1, w4.2.2.1⟩, fun q => ?_, a5, fun _ => ⟨w6.2.1, w6.2.2.1⟩, a7⟩
    rcases q with q | q
    · exact absurd q (hn 0 (by decide) (by decide))
    · exact absurd q (hn 1 (by decide) (by decide))
  have hE0 : E0 (hLot (mU (mU s.1 11 8 (z 6 - 1)) 11 11 (z 13 + 1)) j (wetF (ofz z j))) (zWets z j) := by
    refine E0.same (y := mU (mU s.1 11 8 (z 6 - 1)) 11 11 (z 13 + 1)) (z := upd (upd z 6 (z 6 - 1)) 13 (z 13 + 1)) ?_ (fun i _ _ => hLot_b (by decide)) (fun i hi => ?_)
    · exact E0.one 11 13 (by decide) (y := mU s.1 11 8 (z 6 - 1)) (z := upd z 6 (z 6 - 1)) (e0.one 8 6 (by decide) (mU_us.trans pk_us.symm) (fun i _ _ hi => mU_at (by omega)) (fun i _ hi => pk_un hi)) (mU_us.trans pk_us.symm) (fun i _ _ hi => mU_at (by omega)) (fun i _ hi => pk_un hi)
    · unfold zWets
      rw [zBooks_n (by omega) (by omega), zLot_sc (by omega)]
  have hlv : lvs (zWets z j) n = lvs z n := by
    have := lvs_lot hj hz
    rw [g0] at this
    omega
  have hf : RK T c (hLot (mU (mU s.1 11 8 (z 6 - 1)) 11 11 (z 13 + 1)) j (wetF (ofz z j)), (100 * (hLot (mU (mU s.1 11 8 (z 6 - 1)) 11 11 (z 13 + 1)) j (wetF (ofz z j))) 11 2 + 12 * 5 + nI j) :: s.2.1.take 11, s.2.2 - 12) (zWets z j) n := by
    refine ⟨⟨hE0, hE.lot hLot_E1 (fun b i hb hi => (hLot_ne hi).trans ((mU_at (by omega)).trans (mU_at (by omega)))) hz, hS.same (fun b i h1 _ => (hLot_b (by omega)).trans ((mU_at (by omega)).trans (mU_at (by omega)))) (fun i h1 h2 => hs i (by omega) (by omega) (by omega) (by omega) (by omega)), hG.lot8 ((hLot_b (by decide)).trans ((mU_at (by decide)).trans (mU_at (by decide)))) hz g8, hD.same (fun d _ => (hLot_b (by decide)).trans ((mU_at (by omega)).trans (mU_at (by omega)))) (fun k w _ hw => ?_), ?_, hI.lot0 hj hz hLI (fun i hi => hs i (by omega) (by omega) (by omega) (by omega) (by omega)) f5 f6 (by rw [g0]; exact f5) (by rw [g0]; exact f6)⟩, ?_⟩
    · rw [hz k w (by omega)]
      by_cases e : k = j
      · rw [if_pos e, e]
        rcases w with _ | _ | w
        · exact g0
        · exact g1
        · omega
      · rw [if_neg e]
    · unfold zWets
      refine EB.note hB ?_ (fun i h1 h2 => ?_) ?_
      · rw [zLot_sc (by decide), pk_un (by decide), pk_un (by decide)]
      · rw [zLot_sc (by omega), pk_un (by omega), pk_un (by omega)]
      · rw [zLot_sc (by decide), pk_un (by decide), pk_un (by decide), hLot_b (by decide), mU_at (by decide), mU_at (by decide)]
        exact e0.1.symm
    · show 12 * lvs (zWets z j) n + c ≤ s.2.2 - 12
      omega
  have hval : (hLot (mU (mU s.1 11 8 (z 6 - 1)) 11 11 (z 13 + 1)) j (wetF (ofz z j))) 11 8 = zWets z j 6 := hE0.2.2.2.2.2.2.1
  show Q ((hLot (mU (mU s.1 11 8 (z 6 - 1)) 11 11 (z 13 + 1)) j (wetF (ofz z j))) 11 8) _
  rw [hval]
  exact h _ hf (litk_lot hk (hn 4 (by decide) (by decide)) (hs 1 (by decide) (by decide) (by decide) (by decide) (by decide)) hz)
end HC
