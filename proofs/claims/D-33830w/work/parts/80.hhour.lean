set_option maxRecDepth 100000
/-! PLAIN: an hour of the house is an hour of the model -/
section HH
variable {n j T c : Nat} {y y' : MS} {s : HS} {L : List Int32} {z z' : Zz} {f g : Nat → Int32}
theorem E0.same (h : E0 y z) (hy : ∀ i, 1 ≤ i → i < 12 → y' 11 i = y 11 i) (hz : ∀ i, i < 9 ∨ (12 ≤ i ∧ i < 14) → z' i = z i) : E0 y' z' := by
  obtain ⟨a1, a2, a3, a4, a5, a6, a7, a8, a9, a10, a11⟩ := h
  exact ⟨(hy 2 (by decide) (by decide)).trans (a1.trans (hz 0 (by decide)).symm), (hy 3 (by decide) (by decide)).trans (a2.trans (hz 1 (by decide)).symm), (hy 4 (by decide) (by decide)).trans (a3.trans (hz 2 (by decide)).symm), (hy 5 (by decide) (by decide)).trans (a4.trans (hz 3 (by decide)).symm), (hy 6 (by decide) (by decide)).trans (a5.trans (hz 4 (by decide)).symm), (hy 7 (by decide) (by decide)).trans (a6.trans (hz 5 (by decide)).symm), (hy 8 (by decide) (by decide)).trans (a7.trans (hz 6 (by decide)).symm), (hy 1 (by decide) (by decide)).trans (a8.trans (hz 7 (by decide)).symm), (hy 9 (by decide) (by decide)).trans (a9.trans (hz 8 (by decide)).symm), (hy 10 (by decide) (by decide)).trans (a10.trans (hz 12 (by decide)).symm), (hy 11 (by decide) (by decide)).trans (a11.trans (hz 13 (by decide)).symm)⟩
theorem E0.one (a b : Nat) (hab : (a = 2 ∧ b = 0) ∨ (a = 3 ∧ b = 1) ∨ (a = 4 ∧ b = 2) ∨ (a = 5 ∧ b = 3) ∨ (a = 6 ∧ b = 4) ∨ (a = 7 ∧ b = 5) ∨ (a = 8 ∧ b = 6) ∨ (a = 1 ∧ b = 7) ∨ (a = 9 ∧ b = 8) ∨ (a = 10 ∧ b = 12) ∨ (a = 11 ∧ b = 13)) (h : E0 y z) (ha : y' 11 a = z' b) (hy : ∀ i, 1 ≤ i → i < 12 → i ≠ a → y' 11 i = y 11 i) (hz : ∀ i, i < 9 ∨ (12 ≤ i ∧ i < 14) → i ≠ b → z' i = z i) : E0 y' z' := by
  have q : ∀ p r, 1 ≤ p → p < 12 → (r < 9 ∨ (12 ≤ r ∧ r < 14)) → (p = a ↔ r = b) → y 11 p = z r → y' 11 p = z' r := by
    intro p r h1 h2 h3 h4 h5
    by_cases e : p = a
    · rw [e, h4.1 e, ha]
    · rw [hy p h1 h2 e, hz r h3 (fun x => e (h4.2 x)), h5]
  obtain ⟨a1, a2, a3, a4, a5, a6, a7, a8, a9, a10, a11⟩ := h
  exact ⟨q 2 0 (by decide) (by decide) (by decide) (by omega) a1, q 3 1 (by decide) (by decide) (by decide) (by omega) a2, q 4 2 (by decide) (by decide) (by decide) (by omega) a3, q 5 3 (by decide) (by decide) (by decide) (by omega) a4, q 6 4 (by decide) (by decide) (by decide) (by omega) a5, q 7 5 (by decide) (by decide) (by decide) (by omega) a6, q 8 6 (by decide) (by decide) (by decide) (by omega) a7, q 1 7 (by decide) (by decide) (by decide) (by omega) a8, q 9 8 (by decide) (by decide) (by decide) (by omega) a9, q 10 12 (by decide) (by decide) (by decide) (by omega) a10, q 11 13 (by decide) (by decide) (by decide) (by omega) a11⟩
/-- a lot changes, neither its place nor its drum -/
theorem RH.lotI (hR : RH T y L z n) (hj : j < n) (hE0 : E0 y' z') (hg : E1 y' g j) (hy : ∀ b i, b < 7 → i ≠ j → y' b i = y b i) (hy7 : ∀ b i, 7 ≤ b → b < 11 → y' b i = y b i) (hz : ∀ k w, w < 9 → ofz z' k w = if k = j then g w else ofz z k w) (g0 : g 0 = ofz z j 0) (g1 : g 1 = ofz z j 1) (hG : EG y' z' n) (hs : ∀ i, (1 ≤ i ∧ i < 5) ∨ i = 7 ∨ (9 ≤ i ∧ i < 12) ∨ i = 14 ∨ (20 ≤ i ∧ i < 44) → z' i = z i) (hLI : LI g) (f5 : ofz z j 0 ≠ 5) (f6 : ofz z j 0 ≠ 6) : RH T y' L z' n ∧ lvs z' n = lvs z n := by
  obtain ⟨-, hE, hS, -, hD, hB, hI⟩ := hR
  refine ⟨⟨hE0, hE.lot hg hy hz, hS.same (fun b i h1 h2 => hy7 b i (by omega) h2) (fun i h1 h2 => hs i (by omega)), hG, hD.same (fun d _ => hy7 7 d (by decide) (by decide)) (fun k w _ hw => ?_), hB.same (hs 14 (by omega)) (fun i h1 h2 => hs i (by omega)), hI.lot0 hj hz hLI (fun i hi => hs i (by omega)) f5 f6 (by rw [g0]; exact f5) (by rw [g0]; exact f6)⟩, ?_⟩
  · rw [hz k w (by omega)]
    by_cases e : k = j
    · rw [if_pos e, e]
      rcases w with _ | _ | w
      · exact g0
      · exact g1
      · omega
    · rw [if_neg e]
  · have h := lvs_lot hj hz
    rw [g0] at h
    omega
theorem hLot_y {b i : Nat} (hi : i ≠ j) : hLot y j g b i = y b i := hLot_ne hi
theorem EG.lot8 (hG : EG y z n) (hy : y' 11 0 = y 11 0) (hz : ∀ k w, w < 9 → ofz z' k w = if k = j then g w else ofz z k w) (g8 : g 8 = ofz z j 8) : EG y' z' n := by
  refine hG.same hy (fun k _ => ?_)
  rw [hz k 8 (by decide)]
  by_cases e : k = j
  · rw [if_pos e, e]; exact g8
  · rw [if_neg e]
/-- a lot leaves its drum -/
theorem ED.left (hD : ED y z n) (hl : LJ (ofz z j)) (h12 : n ≤ 12) (hj : j < n) (hy : ∀ d, d < 4 → y' 7 d = lvD y z j 7 d) (hz : ∀ k w, w < 9 → ofz z' k w = if k = j then g w else ofz z k w) (g0 : g 0 ≠ 2) : ED y' z' n := by
  obtain ⟨a1, a2, a3⟩ := lvD_1 hD hl h12 hj
  refine ⟨fun d k hd hk => ?_, fun d hd => ?_⟩
  · rw [hy d hd, hz k 0 (by decide), hz k 1 (by decide)]
    by_cases e : k = j
    · rw [if_pos e, e]
      exact ⟨fun q => absurd q (a1 d hd), fun q => absurd q.1 g0⟩
    · rw [if_neg e, if_neg e, a2 d k hd hk e]
      exact hD.1 d k hd hk
  · rw [hy d hd]
    exact a3 d hd
theorem E1_1 {x : Int32} (h : E1 y g j) : E1 y (upd g 1 x) j := by
  obtain ⟨e6, e0, e1, e2, e3, e4, e5⟩ := h
  exact ⟨e6.trans (pk_un (by decide)).symm, e0.trans (pk_un (by decide)).symm, e1.trans (pk_un (by decide)).symm, e2.trans (pk_un (by decide)).symm, e3.trans (pk_un (by decide)).symm, e4.trans (pk_un (by decide)).symm, e5.trans (pk_un (by decide)).symm⟩
theorem x2_growLot {Q : Int32 → HS → Prop} (hR : RK T c s z n) (hj : j < n) (hg : ofz z j 0 = 2 ∨ ofz z j 0 = 3) (h : ∀ s', RK T c s' (zGrow z j).2 n → Q (zGrow z j).1 s') : wp_X2_bed (nI j) s (fun b5 σ4 => wp_X2_growHour (nI j) b5 σ4 (fun v7 σ6 => jn (fun (σ10 : HS) => (((v7 = 0) → (Q 0 σ10)) ∧ ((¬ v7 = 0) → (Q 1 σ10)))) (fun kj9 => (((v7 = 0) → (kj9 σ6)) ∧ ((¬ v7 = 0) → (wp_X2_bring (nI j) 6 σ6 (fun σ12 => (kj9 σ12)))))))) := by
  obtain ⟨hH, hc⟩ := hR
  obtain ⟨h0, hE, hS, hG, hD, hB, hI⟩ := id hH
  obtain ⟨⟨h12, h7⟩, hl, -⟩ := id hI
  have hlj := hl j hj
  have f5 : ofz z j 0 ≠ 5 := fun q => by rcases hg with r | r <;> rw [r] at q <;> exact absurd q (by decide)
  have f6 : ofz z j 0 ≠ 6 := fun q => by rcases hg with r | r <;> rw [r] at q <;> exact absurd q (by decide)
  refine x2_bed hE hD hlj.lj h12 hj ?_
  obtain ⟨b1, b2, b3⟩ := bed_air (s := s) hS hlj.lj
  have hH3 : hIsHeap (bedV z j) = if ofz z j 0 = 3 then 1 else 0 := by
    rw [bed_heap]
    rcases hg with r | r <;> rw [r] <;> decide
  have ha := zsetg_ok hI hlj (w := 0) (by decide)
  have hd := zsetg_ok hI hlj (w := 1) (by decide)
  unfold zGrow at h
  revert h b1 b2 b3 ha hd
  generalize zsetg z j 0 = a
  generalize zsetg z j 1 = d
  generalize zsetg z j 2 = t
  intro h b1 b2 b3 ha hd
  have gh := x2_growHour (j := j) (y := s.1) (f := ofz z j) (t := s.2) (b := bedV z j) (a := a) (d := d) (tu := t) (Q := fun v7 σ6 => jn (fun (σ10 : HS) => (((v7 = 0) → (Q 0 σ10)) ∧ ((¬ v7 = 0) → (Q 1 σ10)))) (fun kj9 => (((v7 = 0) → (kj9 σ6)) ∧ ((¬ v7 = 0) → (wp_X2_bring (nI j) 6 σ6 (fun σ12 => (kj9 σ12))))))) (bedV_lt hlj.lj) b1 b2 b3 hH3 (by omega) (fun Q' hq => by
    rw [hLot_self (hE j hj)] at hq ⊢
    exact x2_pace hE hlj h12 hj (by rw [if_pos hg]; exact hq)) ?_
  · rw [hLot_self (hE j hj)] at gh
    exact gh
  · obtain ⟨e0, e1, e4, e5, e6, e8⟩ := growF_0 (ofz z j) a d t
    have hy10 : s.1 11 10 = z 12 := h0.2.2.2.2.2.2.2.2.2.1
    have hm : ∀ b i, b ≠ 11 → mU s.1 11 10 (s.1 11 10 + gBr (ofz z j)) b i = s.1 b i := fun b i hb => congrFun (m_un hb) i
    have hm2 : ∀ i, i ≠ 10 → mU s.1 11 10 (s.1 11 10 + gBr (ofz z j)) 11 i = s.1 11 i := fun i hi => by rw [m_u0, pk_un hi]
    have hm3 : mU s.1 11 10 (s.1 11 10 + gBr (ofz z j)) 11 10 = s.1 11 10 + gBr (ofz z j) := by rw [m_u0, pk_us]
    unfold zGr at h
    by_cases hh : 42 < gHt (ofz z j) a t
    · rw [if_pos hh] at h
      have hv : ¬ imst 10 (gHt (ofz z j) a t) ≤ 42 := by
        unfold imst
        rw [if_pos (by rw [Int32.lt_iff_toInt_lt] at hh; rw [Int32.le_iff_toInt_le]; have : (42 : Int32).toInt = 42 := by decide
                       have : (10 : Int32).toInt = 10 := by decide
                       omega)]
        exact Int32.not_le.mpr hh
      rw [if_neg hv]
      refine jnI ⟨fun q => absurd q (by decide), fun _ => ?_⟩
      have hD1 : ED (hLot (mU s.1 11 10 (s.1 11 10 + gBr (ofz z j))) j (growF (ofz z j) a d t)) z n := hD.same (fun d _ => (hLot_b (by decide)).trans (hm 7 d (by decide))) (fun k w _ _ => rfl)
      have hl1 := lvs_pos hj f5 f6
      refine x2_bring (z := z) (n := n) hD1 hlj.lj h12 hj hLot_E1 (by show 12 ≤ s.2.2; omega) hB.1 ⟨fun q => absurd q (by decide), fun _ => h _ ?_⟩
      show RK T c _ (zG1 z j a d t) n
      have hz : ∀ k w, w < 9 → ofz (zG1 z j a d t) k w = if k = j then spF (growF (ofz z j) a d t) w else ofz z k w := fun k w hw => by
        unfold zG1
        rw [ofz_books, ofz_lot hw, ofz_sc (by decide), ofz_sc (by decide)]
      have hs : ∀ i, i ≠ 11 → i ≠ 12 → i ≠ 14 → (i < 20 ∨ 32 ≤ i) → i < 44 → zG1 z j a d t i = z i := fun i h1 h2 h3 h4 h5 => by
        unfold zG1
        rw [zBooks_n h3 h4, zLot_sc h5, pk_un h1, pk_un h2]
      have hs12 : zG1 z j a d t 12 = z 12 + gBr (ofz z j) := by
        unfold zG1
        rw [zBooks_n (by decide) (by decide), zLot_sc (by decide), pk_un (by decide), pk_us]
      have hs11 : zG1 z j a d t 11 = z 11 + (growF (ofz z j) a d t 2 + growF (ofz z j) a d t 3) := by
        unfold zG1
        rw [zBooks_n (by decide) (by decide), zLot_sc (by decide), pk_us]
      have g0 : spF (growF (ofz z j) a d t) 0 = 6 := by simp [spF, upd]
      have g2 : spF (growF (ofz z j) a d t) 2 = growF (ofz z j) a d t 2 := by simp [spF, upd]
      have g3 : spF (growF (ofz z j) a d t) 3 = growF (ofz z j) a d t 3 := by simp [spF, upd]
      have g8 : spF (growF (ofz z j) a d t) 8 = ofz z j 8 := by rw [← e8]; simp [spF, upd]
      obtain ⟨-, -, -, -, -, -, -, s9, s10, s11⟩ := id hI
      refine ⟨⟨h0.one 10 12 (by decide) ?_ (fun i h1 h2 h3 => ?_) (fun i h1 h2 => hs i (by omega) h2 (by omega) (by omega) (by omega)), hE.lot (E1_1 hLot_E1) (fun b i hb hi => ?_) hz, hS.same (fun b i h1 h2 => ?_) (fun i h1 h2 => hs i (by omega) (by omega) (by omega) (by omega) (by omega)), hG.lot8 ?_ hz g8, ED.left hD1 hlj.lj h12 hj (fun d hd => hLot_b (by decide)) hz (by rw [g0]; decide), EB.note hB ?_ (fun i h1 h2 => ?_) ?_, hI.lotH hz (LI_spoil hlj ha hd) (fun i hi => hs i (by omega) (by omega) (by omega) (by omega) (by omega)) ?_ ?_ ?_⟩, ?_⟩
      · show hLot (lvD (hLot (mU s.1 11 10 (s.1 11 10 + gBr (ofz z j))) j (growF (ofz z j) a d t)) z j) j _ 11 10 = _
        rw [hLot_b (by decide), lvD_n (by decide), hLot_b (by decide), hm3, hs12, hy10]
      · show hLot (lvD (hLot (mU s.1 11 10 (s.1 11 10 + gBr (ofz z j))) j (growF (ofz z j) a d t)) z j) j _ 11 i = _
        rw [hLot_b (by decide), lvD_n (by decide), hLot_b (by decide), hm2 i h3]
      · show hLot (lvD (hLot (mU s.1 11 10 (s.1 11 10 + gBr (ofz z j))) j (growF (ofz z j) a d t)) z j) j _ b i = _
        rw [hLot_ne hi, lvD_n (by omega), hLot_ne hi, hm b i (by omega)]
      · show hLot (lvD (hLot (mU s.1 11 10 (s.1 11 10 + gBr (ofz z j))) j (growF (ofz z j) a d t)) z j) j _ b i = _
        rw [hLot_b (by omega), lvD_n (by omega), hLot_b (by omega), hm b i (by omega)]
      · show hLot (lvD (hLot (mU s.1 11 10 (s.1 11 10 + gBr (ofz z j))) j (growF (ofz z j) a d t)) z j) j _ 11 0 = _
        rw [hLot_b (by decide), lvD_n (by decide), hLot_b (by decide), hm2 0 (by decide)]
      · rw [zLot_sc (by decide), pk_un (by decide), pk_un (by decide)]
      · rw [zLot_sc (by omega), pk_un (by omega), pk_un (by omega)]
      · rw [zLot_sc (by decide), pk_un (by decide), pk_un (by decide)]
        exact h0.1.symm.trans ((hLot_b (by decide)).trans (hm2 2 (by decide))).symm
      · have := sM_one (w := 2) (d := 0) hj (by decide) hz (by rw [g0, if_neg (by decide), if_neg f5]; rfl)
        rw [this, Int32.add_zero, hs 9 (by decide) (by decide) (by decide) (by decide) (by decide)]
        exact s9
      · have := sM_one (w := 3) (d := 0) hj (by decide) hz (by rw [g0, if_neg (by decide), if_neg f5]; rfl)
        rw [this, Int32.add_zero, hs 10 (by decide) (by decide) (by decide) (by decide) (by decide)]
        exact s10
      · have := zwgt_one (p := 6) (d := growF (ofz z j) a d t 2 + growF (ofz z j) a d t 3) hj hz (by rw [g0, if_pos rfl, if_neg f6, g2, g3, Int32.zero_add])
        rw [this, hs11, s11]
      · have := lvs_lot hj hz
        rw [if_neg (fun q => q.elim f5 f6), if_pos (Or.inr g0)] at this
        show 12 * lvs (zG1 z j a d t) n + c ≤ s.2.2 - 12
        omega
    · rw [if_neg hh] at h
      have hv : imst 10 (gHt (ofz z j) a t) ≤ 42 := by
        have := (imst_10 hh).2
        rw [Int32.le_iff_toInt_le]
        exact this
      rw [if_pos hv]
      refine jnI ⟨fun _ => ⟨fun _ => h _ ?_, fun q => absurd rfl q⟩, fun q => absurd rfl q⟩
      have hz : ∀ k w, w < 9 → ofz (zG0 z j a d t) k w = if k = j then growF (ofz z j) a d t w else ofz z k w := fun k w hw => by
        unfold zG0
        rw [ofz_lot hw, ofz_sc (by decide)]
      have hs : ∀ i, i ≠ 12 → i < 44 → zG0 z j a d t i = z i := fun i h1 h2 => by
        unfold zG0
        rw [zLot_sc h2, pk_un h1]
      have hk := hH.lotI (y' := hLot (mU s.1 11 10 (s.1 11 10 + gBr (ofz z j))) j (growF (ofz z j) a d t)) hj (h0.one 10 12 (by decide) (by
          rw [hLot_b (by decide), hm3, hy10]
          unfold zG0
          rw [zLot_sc (by decide), pk_us]) (fun i h1 h2 h3 => (hLot_b (by decide)).trans (hm2 i h3)) (fun i h1 h2 => hs i h2 (by omega))) hLot_E1 (fun b i hb hi => (hLot_ne hi).trans (hm b i (by omega))) (fun b i h1 h2 => (hLot_b h1).trans (hm b i (by omega))) hz e0 e1 (hG.lot8 ((hLot_b (by decide)).trans (hm2 0 (by decide))) hz e8) (fun i hi => hs i (by omega) (by omega)) (LI_grow hlj hg ha hd hh) f5 f6
      exact ⟨hk.1, by rw [hk.2]; exact hc⟩
theorem x2_lotHour {Q : Int32 → HS → Prop} (hT : T < 2 ^ 30) (hR : RK T c s z n) (hj : j < n) (h : ∀ s', RK T c s' (zHL z j).2 n → Q (zHL z j).1 s') : wp_X2_lotHour (nI j) s Q := by
  obtain ⟨hH, hc⟩ := id hR
  obtain ⟨h0, hE, hS, hG, hD, hB, hI⟩ := id hH
  obtain ⟨⟨h12, h7⟩, hl, hlit, -⟩ := id hI
  have hlj := hl j hj
  unfold wp_X2_lotHour
  rw [cl (by omega), (hE j hj).1]
  refine ⟨vl (by omega), fun x1 e1 => ?_⟩
  subst e1
  unfold zHL at h
  refine ⟨fun c1 => ?_, fun c1 => ⟨fun c2 => ?_, fun c2 => ⟨fun c3 => ?_, fun c3 => ⟨fun c4 => ?_, fun c4 => ?_⟩⟩⟩⟩
  · rw [if_pos c1] at h
    obtain ⟨b4, b6⟩ := hlj.2.2.2.1 (Or.inr c1)
    have e := x2_steepHour (j := j) (y := s.1) (f := ofz z j) (t := s.2) (Q := fun σ3 => Q 0 σ3) (by omega) b4 b6 (h _ ?_)
    · rw [hLot_self (hE j hj)] at e
      exact e
    · have hz : ∀ k w, w < 9 → ofz (zLot z j (steF (ofz z j))) k w = if k = j then steF (ofz z j) w else ofz z k w := fun k w hw => ofz_lot hw
      have g8 : steF (ofz z j) 8 = ofz z j 8 := by simp [steF, upd]
      have f5 : ofz z j 0 ≠ 5 := by rw [c1]; decide
      have f6 : ofz z j 0 ≠ 6 := by rw [c1]; decide
      have hk := hH.lotI (y' := hLot s.1 j (steF (ofz z j))) hj (h0.same (fun i _ _ => hLot_b (by decide)) (fun i _ => zLot_sc (by omega))) hLot_E1 (fun b i _ hi => hLot_ne hi) (fun b i h1 _ => hLot_b h1) hz (by simp [steF, upd]) (by simp [steF, upd]) (hG.lot8 (hLot_b (by decide)) hz g8) (fun i hi => zLot_sc (by omega)) (LI_ste hlj c1) f5 f6
      exact ⟨hk.1, by rw [hk.2]; exact hc⟩
  · rw [if_neg c1, if_pos (Or.inl c2)] at h
    exact x2_growLot hR hj (Or.inl c2) h
  · rw [if_neg c1, if_pos (Or.inr c3)] at h
    exact x2_growLot hR hj (Or.inr c3) h
  · rw [if_neg c1, if_neg (fun q => q.elim c2 c3)] at h
    have e3 : s.1 11 3 = z 1 := h0.2.1
    rw [e3]
    refine ⟨fun c5 => ?_, fun c5 => ?_⟩
    · rw [if_neg (fun q => by rw [c5] at q; exact absurd q.2 (by decide))] at h
      exact h s hR
    · have c6 : z 1 = 1 := hlit.resolve_left c5
      rw [if_pos ⟨c4, c6⟩] at h
      have hx := zkh_ok (x := z 2 + 1) hI
      have e := x2_kilnHour (j := j) (y := s.1) (f := ofz z j) (t := s.2) (x := zkh z (z 2 + 1)) (Q := fun σ23 => Q 0 σ23) (by omega) (fun Q' hq => by
        rw [hLot_self (hE j hj)] at hq ⊢
        exact x2_kilnHeat h0 hI hT hq) (h _ ?_)
      · rw [hLot_self (hE j hj)] at e
        exact e
      · revert hx
        generalize zkh z (z 2 + 1) = x
        intro hx
        have hz : ∀ k w, w < 9 → ofz (zLot z j (dryF (ofz z j) x)) k w = if k = j then dryF (ofz z j) x w else ofz z k w := fun k w hw => ofz_lot hw
        have f5 : ofz z j 0 ≠ 5 := by rw [c4]; decide
        have f6 : ofz z j 0 ≠ 6 := by rw [c4]; decide
        have hm : ∀ b i, b ≠ 11 → mU s.1 11 0 (s.1 11 0 ||| glV (ofz z j) x j) b i = s.1 b i := fun b i hb => congrFun (m_un hb) i
        have hm2 : ∀ i, i ≠ 0 → mU s.1 11 0 (s.1 11 0 ||| glV (ofz z j) x j) 11 i = s.1 11 i := fun i hi => by rw [m_u0, pk_un hi]
        have hm3 : mU s.1 11 0 (s.1 11 0 ||| glV (ofz z j) x j) 11 0 = s.1 11 0 ||| glV (ofz z j) x j := by rw [m_u0, pk_us]
        have hk := hH.lotI (y' := hLot (mU s.1 11 0 (s.1 11 0 ||| glV (ofz z j) x j)) j (dryF (ofz z j) x)) hj (h0.same (fun i h1 _ => (hLot_b (by decide)).trans (hm2 i (by omega))) (fun i _ => zLot_sc (by omega))) hLot_E1 (fun b i hb hi => (hLot_ne hi).trans (hm b i (by omega))) (fun b i h1 h2 => (hLot_b h1).trans (hm b i (by omega))) hz (by simp [dryF, upd]) (by simp [dryF, upd]) ?_ (fun i hi => zLot_sc (by omega)) (LI_dry hlj c4 hx) f5 f6
        · exact ⟨hk.1, by rw [hk.2]; exact hc⟩
        · intro k hk
          rw [hLot_b (by decide), hm3, b_or, hG k hk, hz k 8 (by decide)]
          have e8 : dryF (ofz z j) x 8 = if x ≤ 80 then ofz z j 8 else if ofz z j 4 ≤ 20 then ofz z j 8 else 1 := by simp [dryF, upd]
          unfold glV
          by_cases q1 : x ≤ 80
          · rw [if_pos q1] at e8 ⊢
            rw [b_0, Bool.or_false, e8]
            by_cases ek : k = j
            · rw [if_pos ek, ek]
            · rw [if_neg ek]
          · rw [if_neg q1] at e8 ⊢
            by_cases q2 : ofz z j 4 ≤ 20
            · rw [if_pos q2] at e8 ⊢
              rw [b_0, Bool.or_false, e8]
              by_cases ek : k = j
              · rw [if_pos ek, ek]
              · rw [if_neg ek]
            · rw [if_neg q2] at e8 ⊢
              rw [b_one (by omega) (by omega), e8]
              by_cases ek : k = j
              · rw [if_pos ek, ek]
                simp [hj]
              · rw [if_neg ek]
                simp [ek]
  · rw [if_neg c1, if_neg (fun q => q.elim c2 c3), if_neg (fun q => c4 q.1)] at h
    exact h s hR
theorem x2_hour_L39 {kx : Int32 → Int32 → HS → Prop} (hT : T < 2 ^ 30) (h : ∀ s', RK T c s' (zHLs z n).2 n → kx (zHLs z n).1 (nI n) s') : ∀ m F k s, k + m = n → m < F → RK T c s (zHLs z k).2 n → wp_X2_hour_L39 kx F (zHLs z k).1 (nI k) s := by
  intro m
  induction m with
  | zero =>
    intro F k s e hF hR
    obtain ⟨F, rfl⟩ := fpos hF
    obtain rfl : k = n := by omega
    rw [wp_X2_hour_L39, hR.1.lots]
    exact ⟨fun _ => h s hR, fun c => absurd lp_out c⟩
  | succ m ih =>
    intro F k s e hF hR
    obtain ⟨F, rfl⟩ := fpos hF
    rw [wp_X2_hour_L39, hR.1.lots]
    refine ⟨fun c => absurd c (lp_in (by omega) hR.1.zOK.2.1), fun _ => x2_lotHour hT hR (by omega) (fun s' hR' => ?_)⟩
    have e1 := ih F (k + 1) s' (by omega) (by omega) hR'
    rw [nI_succ] at e1
    exact e1
end HH
