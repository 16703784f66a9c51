set_option maxRecDepth 100000
/-! PLAIN: an hour of the house is an hour of the model, 2 -/
section HH
variable {n j T c : Nat} {y y' : MS} {s : HS} {L : List Int32} {z z' : Zz} {f g : Nat → Int32}
def dryV (z : Zz) (v : Int32) : Nat → Int32
  | 0 => v
  | k + 1 => if dryV z v k = 0 then 0 else if ofz z k 0 = 4 then (if 4 < ofz z k 4 then 0 else 1) else 1
theorem dryV_or {v : Int32} (hv : v = 0 ∨ v = 1) : ∀ k, dryV z v k = 0 ∨ dryV z v k = 1
  | 0 => hv
  | k + 1 => by
    rw [dryV]
    split
    · exact Or.inl rfl
    · split
      · split
        · exact Or.inl rfl
        · exact Or.inr rfl
      · exact Or.inr rfl
theorem dryV_0 : ∀ k, dryV z 0 k = 0
  | 0 => rfl
  | k + 1 => by
    rw [dryV, if_pos (dryV_0 k)]
theorem dry_zmn : ∀ k, (dryV z 1 k = 1 ∧ ∀ v, zmn z v k = v) ∨ (dryV z 1 k = 0 ∧ ∀ v, zmn z v k = 0)
  | 0 => Or.inl ⟨rfl, fun _ => rfl⟩
  | k + 1 => by
    rcases dry_zmn k with ⟨h1, h2⟩ | ⟨h1, h2⟩
    · rw [dryV, h1, if_neg (by decide)]
      by_cases c4 : ofz z k 0 = 4
      · rw [if_pos c4]
        by_cases cw : 4 < ofz z k 4
        · rw [if_pos cw]
          refine Or.inr ⟨rfl, fun v => ?_⟩
          rw [zmn, if_pos c4, if_neg (Int32.not_le.mpr cw)]
        · rw [if_neg cw]
          refine Or.inl ⟨rfl, fun v => ?_⟩
          rw [zmn, if_pos c4, if_pos (Int32.not_lt.mp cw), h2]
      · rw [if_neg c4]
        refine Or.inl ⟨rfl, fun v => ?_⟩
        rw [zmn, if_neg c4, h2]
    · rw [dryV, if_pos h1]
      refine Or.inr ⟨rfl, fun v => ?_⟩
      rw [zmn]
      split
      · split
        · exact h2 v
        · rfl
      · exact h2 v
theorem x2_isDry_L {kx : Int32 → Int32 → Prop} {v : Int32} (hv : v = 0 ∨ v = 1) (hn : s.1 11 1 = nI n) (hE : EL s.1 z n) (h12 : n ≤ 12) (h : kx (dryV z v n) (nI n)) : ∀ m F k, k + m = n → m < F → wp_X2_isDry_L7 kx s F (dryV z v k) (nI k) := by
  intro m
  induction m with
  | zero =>
    intro F k e hF
    obtain ⟨F, rfl⟩ := fpos hF
    obtain rfl : k = n := by omega
    rw [wp_X2_isDry_L7, hn]
    exact ⟨fun _ => h, fun c => absurd lp_out c⟩
  | succ m ih =>
    intro F k e hF
    obtain ⟨F, rfl⟩ := fpos hF
    rw [wp_X2_isDry_L7, hn]
    have e1 := ih F (k + 1) (by omega) (by omega)
    rw [nI_succ, dryV] at e1
    obtain ⟨e6, e0, e1', e2, e3, e4, e5⟩ := hE k (by omega)
    refine ⟨fun c => absurd c (lp_in (by omega) h12), fun _ => jnI ?_⟩
    rw [cl (by omega), e6, e2]
    refine ⟨fun c1 => ?_, fun c1 => ⟨vl (by omega), fun c2 => ?_, fun c2 => ⟨vl (by omega), fun c3 => ?_, fun c3 => ?_⟩⟩⟩
    · rw [if_pos c1] at e1; exact e1
    · rw [if_neg c1, if_neg c2] at e1; exact e1
    · rw [if_neg c1, if_pos c2, if_pos c3] at e1; exact e1
    · rw [if_neg c1, if_pos c2, if_neg c3] at e1; exact e1
theorem x2_isDry {Q : Int32 → HS → Prop} (hn : s.1 11 1 = nI n) (hE : EL s.1 z n) (h12 : n ≤ 12) (hv : s.1 11 3 = 0 ∨ s.1 11 3 = 1) (h : Q (dryV z (s.1 11 3) n) s) : wp_X2_isDry s Q :=
  x2_isDry_L (kx := fun x _ => (x = 0 ∨ x = 1) ∧ Q x s) hv hn hE h12 ⟨dryV_or hv n, h⟩ n mF 0 (by omega) (by unfold mF; omega)
theorem zMs_ge {w : Nat} (hw : w < 9) : ∀ k, k ≤ j → ofz (zMs z k) j w = ofz z j w
  | 0, _ => rfl
  | k + 1, h => by
    have e := zMs_ge hw k (by omega)
    rw [zMs]
    unfold zM1
    split
    · unfold zMalt
      rw [ofz_books, ofz_ne (by omega) hw, ofz_sc (by decide), ofz_sc (by decide)]
      exact e
    · exact e
/-- one lot becomes malt -/
theorem RK_malt (hR : RK T c s z n) (hj : j < n) (h4 : ofz z j 0 = 4) : 12 ≤ s.2.2 ∧ s.2.1.length ≤ 12 ∧ RK T c (hNote 7 (nI j) (hU s 6 j 5)) (zMalt z j) n := by
  obtain ⟨hH, hc⟩ := hR
  obtain ⟨h0, hE, hS, hG, hD, hB, hI⟩ := id hH
  obtain ⟨⟨h12, h7⟩, hl, -, -, -, -, -, s9, s10, s11⟩ := id hI
  have hlj := hl j hj
  have f5 : ofz z j 0 ≠ 5 := by rw [h4]; decide
  have f6 : ofz z j 0 ≠ 6 := by rw [h4]; decide
  have f2 : ¬ ofz z j 0 = 2 := by rw [h4]; decide
  have hl1 := lvs_pos hj f5 f6
  have eU : hU s 6 j 5 = (hLot s.1 j (upd (ofz z j) 0 5), s.2) := by
    have := hU_6 (y := s.1) (j := j) (f := ofz z j) (x := 5) (t := s.2)
    rw [hLot_self (hE j hj)] at this
    exact this
  refine ⟨by omega, hB.1, ?_⟩
  rw [eU]
  have hz : ∀ k w, w < 9 → ofz (zMalt z j) k w = if k = j then upd (ofz z j) 0 5 w else ofz z k w := fun k w hw => by
    unfold zMalt
    rw [ofz_books, ofz_lot hw, ofz_sc (by decide), ofz_sc (by decide)]
  have hs : ∀ i, i ≠ 9 → i ≠ 10 → i ≠ 14 → (i < 20 ∨ 32 ≤ i) → i < 44 → zMalt z j i = z i := fun i h1 h2 h3 h4 h5 => zMalt_sc h1 h2 h3 (by omega)
  have hs9 : zMalt z j 9 = z 9 + ofz z j 2 := by
    unfold zMalt
    rw [zBooks_n (by decide) (by decide), zLot_sc (by decide), pk_un (by decide), pk_us]
  have hs10 : zMalt z j 10 = z 10 + ofz z j 3 := by
    unfold zMalt
    rw [zBooks_n (by decide) (by decide), zLot_sc (by decide), pk_us]
  have g0 : upd (ofz z j) 0 5 0 = 5 := pk_us
  have g1 : ∀ w, w ≠ 0 → upd (ofz z j) 0 5 w = ofz z j w := fun w hw => pk_un hw
  have hLI : LI (upd (ofz z j) 0 5) := by
    obtain ⟨a1, a2, a3, a4, a5, a6, a7⟩ := hlj
    unfold LI
    rw [g0, g1 1 (by decide), g1 4 (by decide), g1 5 (by decide), g1 6 (by decide), g1 8 (by decide)]
    exact ⟨fun q => absurd q (by decide), fun _ => a2 f2, a3, fun q => absurd q (by decide), a5, fun q => absurd q (by decide), a7⟩
  refine ⟨⟨h0.same (fun i _ _ => hLot_b (by decide)) (fun i hi => hs i (by omega) (by omega) (by omega) (by omega) (by omega)), hE.lot hLot_E1 (fun b i _ hi => hLot_ne hi) hz, hS.same (fun b i h1 _ => hLot_b (by omega)) (fun i h1 h2 => hs i (by omega) (by omega) (by omega) (by omega) (by omega)), hG.lot8 (hLot_b (by decide)) hz (g1 8 (by decide)), ED.left hD hlj.lj h12 hj (fun d _ => by
    show hLot s.1 j _ 7 d = _
    rw [hLot_b (by decide)]
    unfold lvD
    rw [if_neg f2]) hz (by rw [g0]; decide), ?_, hI.lotH hz hLI (fun i hi => hs i (by omega) (by omega) (by omega) (by omega) (by omega)) ?_ ?_ ?_⟩, ?_⟩
  · show EB ((100 * (hLot s.1 j (upd (ofz z j) 0 5)) 11 2 + 12 * 7 + nI j) :: s.2.1.take 11) (zMalt z j)
    unfold zMalt
    refine EB.note hB ?_ (fun i h1 h2 => ?_) ?_
    · rw [zLot_sc (by decide), pk_un (by decide), pk_un (by decide)]
    · rw [zLot_sc (by omega), pk_un (by omega), pk_un (by omega)]
    · rw [zLot_sc (by decide), pk_un (by decide), pk_un (by decide), hLot_b (by decide)]
      exact h0.1.symm
  · have := sM_one (w := 2) (d := ofz z j 2) hj (by decide) hz (by rw [if_pos g0, if_neg f5, g1 2 (by decide), Int32.zero_add])
    rw [this, hs9, s9]
  · have := sM_one (w := 3) (d := ofz z j 3) hj (by decide) hz (by rw [if_pos g0, if_neg f5, g1 3 (by decide), Int32.zero_add])
    rw [this, hs10, s10]
  · have := zwgt_one (p := 6) (d := 0) hj hz (by rw [g0, if_neg (by decide), if_neg f6]; rfl)
    rw [this, Int32.add_zero, hs 11 (by decide) (by decide) (by decide) (by decide) (by decide)]
    exact s11
  · have := lvs_lot hj hz
    rw [if_neg (fun q => q.elim f5 f6), if_pos (Or.inl g0)] at this
    show 12 * lvs (zMalt z j) n + c ≤ s.2.2 - 12
    omega
theorem x2_hour_L91 {kx : Int32 → Int32 → HS → Prop} {a : Int32} (h : ∀ s', RK T c s' (zMs z n) n → kx (a + zcnt z n 4) (nI n) s') : ∀ m F k s, k + m = n → m < F → RK T c s (zMs z k) n → wp_X2_hour_L91 kx F (a + zcnt z k 4) (nI k) s := by
  intro m
  induction m with
  | zero =>
    intro F k s e hF hR
    obtain ⟨F, rfl⟩ := fpos hF
    obtain rfl : k = n := by omega
    rw [wp_X2_hour_L91, hR.1.lots]
    exact ⟨fun _ => h s hR, fun c => absurd lp_out c⟩
  | succ m ih =>
    intro F k s e hF hR
    obtain ⟨F, rfl⟩ := fpos hF
    have h12 := hR.1.zOK.2.1
    have ek : ofz (zMs z k) k 0 = ofz z k 0 := zMs_ge (by decide) k (Nat.le_refl _)
    rw [wp_X2_hour_L91, hR.1.lots, cl (by omega), (hR.1.2.1 k (by omega)).1]
    refine ⟨fun c => absurd c (lp_in (by omega) h12), fun _ => ⟨vl (by omega), jnI ⟨fun c4 => ?_, fun c4 => ⟨vl (by omega), fun s34 e34 => ?_⟩⟩⟩⟩
    · have e1 := ih F (k + 1) s (by omega) (by omega) (by
        rw [zMs]
        unfold zM1
        rw [if_neg c4]
        exact hR)
      rw [ek] at c4
      rw [nI_succ, zcnt_neg c4, Int32.add_zero] at e1
      exact e1
    · subst e34
      obtain ⟨q1, q2, q3⟩ := RK_malt hR (by omega) c4
      have e1 := ih F (k + 1) (hNote 7 (nI k) (hU s 6 k 5)) (by omega) (by omega) (by
        rw [zMs]
        unfold zM1
        rw [if_pos c4]
        exact q3)
      rw [ek] at c4
      rw [nI_succ, zcnt_pos c4, ← Int32.add_assoc] at e1
      unfold wp_X2_note
      exact ⟨q1, q2, e1⟩
theorem upd_self {q : Nat → Int32} {i : Nat} : upd q i (q i) = q := by
  funext k
  by_cases e : k = i
  · rw [e, pk_us]
  · rw [pk_un e]
theorem RK.scal {T' : Nat} (hR : RK T c s z n) (hE0 : E0 y' z') (hy : ∀ b i, b < 11 → y' b i = s.1 b i) (hy0 : y' 11 0 = s.1 11 0) (hz : ∀ i, 14 ≤ i → z' i = z i) (hs : ∀ i, (9 ≤ i ∧ i < 12) ∨ i = 7 ∨ i = 3 ∨ i = 4 → z' i = z i) (h1 : z' 1 = 0 ∨ z' 1 = 1) (h2 : ∃ t, t ≤ T' ∧ z' 2 = nI t) (h3 : z' 1 = 0 → z' 2 = 0) : RK T' c (y', s.2) z' n := by
  obtain ⟨⟨-, hE, hS, hG, hD, hB, hI⟩, hc⟩ := hR
  obtain ⟨⟨h12, h7⟩, hl, -, -, -, b34, bS, s9, s10, s11⟩ := id hI
  have hzz : ∀ k w, w < 9 → ofz z' k w = ofz z k w := fun k w _ => hz _ (by omega)
  refine ⟨⟨hE0, hE.same (fun b i hb => hy b i (by omega)) hzz, hS.same (fun b i h1 h2 => hy b i (by omega)) (fun i h1 h2 => hz i (by omega)), hG.same hy0 (fun k _ => hzz k 8 (by decide)), hD.same (fun d _ => hy 7 d (by decide)) (fun k w _ hw => hzz k w (by omega)), hB.same (hz 14 (by decide)) (fun i h1 h2 => hz i (by omega)), ⟨⟨h12, (hs 7 (by omega)).trans h7⟩, fun k hk => LI_congr (fun w hw => (hzz k w hw).symm) (hl k hk), h1, h2, h3, ?_, fun i h1 h2 => ?_, ?_, ?_, ?_⟩⟩, ?_⟩
  · rw [hs 3 (by omega), hs 4 (by omega)]; exact b34
  · rw [hz i (by omega)]; exact bS i h1 h2
  · rw [hs 9 (by omega), sM_congr (z := z) (by decide) (fun k w _ hw => hzz k w hw)]; exact s9
  · rw [hs 10 (by omega), sM_congr (z := z) (by decide) (fun k w _ hw => hzz k w hw)]; exact s10
  · rw [hs 11 (by omega), zwgt_congr (z := z) (fun k w _ hw => hzz k w hw)]; exact s11
  · rw [lvs_congr (z := z') (z' := z) n (fun k _ => hzz k 0 (by decide))]; exact hc
theorem RK.mono {T' : Nat} (h : T ≤ T') (hR : RK T c s z n) : RK T' c s z n := by
  obtain ⟨⟨h0, hE, hS, hG, hD, hB, ⟨a1, a2, a3, ⟨t, ht, e⟩, a4⟩⟩, hc⟩ := hR
  exact ⟨⟨h0, hE, hS, hG, hD, hB, ⟨a1, a2, a3, ⟨t, by omega, e⟩, a4⟩⟩, hc⟩
theorem mU_at {b i q : Nat} {x : Int32} {k : Nat} (h : q ≠ b ∨ k ≠ i) : mU y b i x q k = y q k := by
  by_cases e : q = b
  · subst e
    rw [m_u0, pk_un (by omega)]
  · exact congrFun (m_un e) k
theorem mU_us {b i : Nat} {x : Int32} : mU y b i x b i = x := by rw [m_u0, pk_us]
theorem mU_self {b i : Nat} : mU y b i (y b i) = y := by
  funext q k
  by_cases e : q = b ∧ k = i
  · rw [e.1, e.2, mU_us]
  · rw [mU_at (by omega)]
theorem zHL_4 {k : Nat} (h : ofz z k 0 = 4) : ofz (zHL z j).2 k 0 = 4 := by
  by_cases e : k = j
  · subst e
    unfold zHL
    rw [if_neg (by rw [h]; decide), if_neg (fun q => by rcases q with q | q <;> rw [h] at q <;> exact absurd q (by decide))]
    split
    · show ofz (zLot z k _) k 0 = 4
      rw [ofz_same (by decide)]
      have e0 : ∀ x, dryF (ofz z k) x 0 = ofz z k 0 := fun x => by simp [dryF, upd]
      rw [e0, h]
    · exact h
  · rw [zHL_ne e (by decide), h]
theorem zHLs_4 {k : Nat} (h : ofz z k 0 = 4) : ∀ m, ofz (zHLs z m).2 k 0 = 4
  | 0 => h
  | m + 1 => zHL_4 (zHLs_4 h m)
theorem cnt_litk (hk : ∃ j, j < n ∧ ofz z j 0 = 4) (h12 : n ≤ 12) : ¬ zcnt z n 4 ≤ 0 := by
  rw [zcnt_N]
  have h1 := cntN_le z 4 n
  obtain ⟨j, hj, e⟩ := hk
  have h2 : cntN z 4 n ≠ 0 := fun q => (cntN_0 z 4 n).1 q j hj e
  exact nI_nle (by omega) (by omega)
theorem x2_hour {Q : Int32 → HS → Prop} (hT : T + 1 < 2 ^ 30) (hR : RK T c s z n) (hk : litk z n) (h : ∀ s', RK (T + 1) c s' (zHour z n).2 n → litk (zHour z n).2 n → Q (zHour z n).1 s') : wp_X2_hour s Q := by
  obtain ⟨hH, hc⟩ := id hR
  obtain ⟨h0, -, -, -, -, -, hI⟩ := id hH
  obtain ⟨⟨h12, h7⟩, -, hlit, hlf, hl0, -⟩ := id hI
  obtain ⟨a0, a1, a2, a3, a4, a5, a6, a7, a8, a12, a13⟩ := id h0
  unfold wp_X2_hour
  intro s1 e1
  have e1' : s1 = (mU s.1 11 2 (z 0 + 1), s.2) := by rw [e1, a0]; rfl
  subst e1'
  have r2 : (mU s.1 11 2 (z 0 + 1), s.2).1 11 2 = z 0 + 1 := by
    show mU s.1 11 2 (z 0 + 1) 11 2 = _
    exact mU_us
  have r8 : (mU s.1 11 2 (z 0 + 1), s.2).1 11 8 = z 6 := by
    show mU s.1 11 2 (z 0 + 1) 11 8 = _
    exact (mU_at (by decide)).trans a6
  have r7 : (mU s.1 11 2 (z 0 + 1), s.2).1 11 7 = z 5 := by
    show mU s.1 11 2 (z 0 + 1) 11 7 = _
    exact (mU_at (by decide)).trans a5
  show jn _ _
  rw [r2, r8, r7]
  refine jn1 (if (z 0 + 1) - (z 0 + 1) / 24 * 24 = 0 then z 5 else z 6) (fun s5 e5 => jnI ?_) (fun k' hk => ⟨fun c => ?_, fun c => ?_⟩)
  rotate_left
  · rw [if_neg c] at hk; exact hk
  · rw [if_pos c] at hk; exact hk
  have hRT : RK T c s5 (zT z) n := by
    rw [e5]
    refine hR.scal (y' := mU (mU s.1 11 2 (z 0 + 1)) 11 8 (if (z 0 + 1) - (z 0 + 1) / 24 * 24 = 0 then z 5 else z 6)) ?_ (fun b i hb => (mU_at (by omega)).trans (mU_at (by omega))) ((mU_at (by decide)).trans (mU_at (by decide))) (fun i hi => zT_sc (by omega) (by omega)) (fun i hi => zT_sc (by omega) (by omega)) ?_ ?_ ?_
    · refine E0.one 8 6 (by decide) (y := mU s.1 11 2 (z 0 + 1)) (z := upd z 0 (z 0 + 1)) (h0.one 2 0 (by decide) (mU_us.trans pk_us.symm) (fun i _ _ hi => mU_at (by omega)) (fun i _ hi => pk_un hi)) (mU_us.trans ?_) (fun i _ _ hi => mU_at (by omega)) (fun i _ hi => ?_)
      · unfold zT
        rw [pk_us]
      · unfold zT
        rw [pk_un hi]
    · rw [zT_sc (by decide) (by decide)]; exact hlit
    · rw [zT_sc (by decide) (by decide)]; exact hlf
    · rw [zT_sc (by decide) (by decide), zT_sc (by decide) (by decide)]; exact hl0
  refine x2_hour_L39 (z := zT z) (T := T) (c := c) (by omega) (fun s12 h12' => ?_) n mF 0 s5 (by omega) (by unfold mF; omega) hRT
  refine jnI ?_
  have b1 : (zHLs (zT z) n).2 1 = z 1 := (zHLs_sc (by decide) (by decide) (by decide) (by decide) n).trans (zT_sc (by decide) (by decide))
  have b2 : (zHLs (zT z) n).2 2 = z 2 := (zHLs_sc (by decide) (by decide) (by decide) (by decide) n).trans (zT_sc (by decide) (by decide))
  have bk : litk (zHLs (zT z) n).2 n := by
    intro q
    rw [b1] at q
    obtain ⟨j, hj, e⟩ := hk q
    exact ⟨j, hj, zHLs_4 (by rw [ofz_T]; exact e) n⟩
  unfold zHour at h
  revert h h12' b1 b2 bk
  generalize zHLs (zT z) n = r
  intro h h12' b1 b2 bk
  obtain ⟨hH2, hc2⟩ := id h12'
  obtain ⟨g0, -, -, -, -, -, gI⟩ := id hH2
  have g3 : s12.1 11 3 = z 1 := g0.2.1.trans b1
  have g4 : s12.1 11 4 = z 2 := g0.2.2.1.trans b2
  rw [g3]
  by_cases cc : z 1 = 1
  · rw [if_pos cc] at h
    have cz : ¬ z 1 = 0 := by rw [cc]; decide
    refine ⟨fun q => absurd q cz, fun _ => fun s16 e16 => ?_⟩
    obtain ⟨t, ht, et⟩ := hlf
    have hR16 : RK (T + 1) c s16 (upd r.2 2 (z 2 + 1)) n := by
      rw [e16, g4]
      refine h12'.scal (y' := mU s12.1 11 4 (z 2 + 1)) (g0.one 4 2 (by decide) (mU_us.trans pk_us.symm) (fun i _ _ hi => mU_at (by omega)) (fun i _ hi => pk_un hi)) (fun b i hb => mU_at (by omega)) (mU_at (by decide)) (fun i hi => pk_un (by omega)) (fun i hi => pk_un (by omega)) ?_ ?_ ?_
      · rw [pk_un (by decide), b1]; exact hlit
      · refine ⟨t + 1, by omega, ?_⟩
        rw [pk_us, et, nI_succ]
      · rw [pk_un (by decide), b1]
        exact fun q => absurd q cz
    have q1 : (upd r.2 2 (z 2 + 1)) 1 = 1 := by rw [pk_un (by decide), b1, cc]
    have q2 : (upd r.2 2 (z 2 + 1)) 2 = z 2 + 1 := pk_us
    have bk2 : ∃ j, j < n ∧ ofz (upd r.2 2 (z 2 + 1)) j 0 = 4 := by
      obtain ⟨j, hj, e⟩ := bk (b1.trans cc)
      exact ⟨j, hj, by rw [ofz_sc (by decide)]; exact e⟩
    revert h hR16 q1 q2 bk2
    generalize upd r.2 2 (z 2 + 1) = x
    intro h hR16 q1 q2 bk2
    obtain ⟨x0, xE, -, -, -, -, xI⟩ := id hR16.1
    have x3 : s16.1 11 3 = 1 := x0.2.1.trans q1
    refine x2_isDry hR16.1.lots xE h12 (Or.inr x3) ?_
    rw [x3]
    have ncnt := cnt_litk bk2 h12
    unfold zEnd zMm zmv at h
    rcases dry_zmn (z := x) n with ⟨d1, d2⟩ | ⟨d1, d2⟩
    · rw [d2, if_neg ncnt, if_neg ncnt, if_neg ncnt] at h
      rw [d1]
      refine ⟨fun q => absurd q (by decide), fun _ => jnI ?_⟩
      have e := x2_hour_L91 (kx := fun (x24 : Int32) (_ : Int32) (σ26 : HS) => (∀ σ27 : HS, σ27 = hU σ26 11 3 0 → (∀ σ28 : HS, σ28 = hU σ27 11 4 0 → (Q x24 σ28)))) (z := x) (T := T + 1) (c := c) (a := r.1) (n := n) (fun s' hs' => ?_) n mF 0 s16 (by omega) (by unfold mF; omega) hR16
      · have e0 : r.1 + zcnt x 0 4 = r.1 := Int32.add_zero _
        rw [e0] at e
        exact e
      · intro s27 e27 s28 e28
        subst e27
        have hf : RK (T + 1) c s28 (upd (upd (zMs x n) 1 0) 2 0) n := by
          rw [e28]
          refine hs'.scal (y' := mU (mU s'.1 11 3 0) 11 4 0) ?_ (fun b i hb => (mU_at (by omega)).trans (mU_at (by omega))) ((mU_at (by decide)).trans (mU_at (by decide))) (fun i hi => (pk_un (by omega)).trans (pk_un (by omega))) (fun i hi => (pk_un (by omega)).trans (pk_un (by omega))) ?_ ?_ ?_
          · exact E0.one 4 2 (by decide) (y := mU s'.1 11 3 0) (z := upd (zMs x n) 1 0) (hs'.1.1.one 3 1 (by decide) (mU_us.trans pk_us.symm) (fun i _ _ hi => mU_at (by omega)) (fun i _ hi => pk_un hi)) (mU_us.trans pk_us.symm) (fun i _ _ hi => mU_at (by omega)) (fun i _ hi => pk_un hi)
          · rw [pk_un (by decide), pk_us]; exact Or.inl rfl
          · exact ⟨0, by omega, by rw [pk_us]; rfl⟩
          · intro _; rw [pk_us]
        refine h s28 hf (fun q => ?_)
        have q' : (upd (upd (zMs x n) 1 0) 2 0) 1 = 1 := q
        rw [pk_un (by decide), pk_us] at q'
        exact absurd q' (by decide)
    · rw [d2, if_pos (by decide), if_pos (by decide), if_pos (by decide)] at h
      rw [d1]
      refine ⟨fun _ => ?_, fun q => absurd rfl q⟩
      have ex : upd (upd x 1 1) 2 (x 2) = x := by
        rw [← q1, upd_self, upd_self]
      rw [ex, Int32.add_zero] at h
      exact h s16 hR16 (fun _ => bk2)
  · rw [if_neg cc] at h
    have cz : z 1 = 0 := hlit.resolve_right cc
    refine ⟨fun _ => fun s16 e16 => ?_, fun q => absurd cz q⟩
    have e17 : s16 = s12 := by
      rw [e16, Int32.add_zero]
      unfold hU
      rw [mU_self]
    subst e17
    refine x2_isDry hH2.lots hH2.2.1 h12 (Or.inl (g3.trans cz)) ?_
    rw [g3, cz, dryV_0]
    exact ⟨fun _ => h _ (h12'.mono (by omega)) bk, fun q => absurd rfl q⟩
theorem x2_pass_L {kx : Int32 → Int32 → HS → Prop} {hs : Nat} (hh : hs < 1000) (hT : T + hs < 2 ^ 30) (h : ∀ s', RK (T + hs) c s' (zHours z n hs).2 n → litk (zHours z n hs).2 n → kx (zHours z n hs).1 (nI hs) s') : ∀ m F k s, k + m = hs → m < F → RK (T + k) c s (zHours z n k).2 n → litk (zHours z n k).2 n → wp_X2_pass_L4 kx (nI hs) F (zHours z n k).1 (nI k) s := by
  intro m
  induction m with
  | zero =>
    intro F k s e hF hR hk
    obtain ⟨F, rfl⟩ := fpos hF
    obtain rfl : k = hs := by omega
    rw [wp_X2_pass_L4]
    exact ⟨fun _ => h s hR hk, fun c => absurd lp_out c⟩
  | succ m ih =>
    intro F k s e hF hR hk
    obtain ⟨F, rfl⟩ := fpos hF
    rw [wp_X2_pass_L4]
    refine ⟨fun c => absurd c (nI_ge (by omega) (by omega)), fun _ => x2_hour (by omega) hR hk (fun s' hR' hk' => ?_)⟩
    have e1 := ih F (k + 1) s' (by omega) (by omega) hR' hk'
    rw [nI_succ] at e1
    exact e1
theorem x2_pass {hs : Nat} {Q : Int32 → HS → Prop} (hh : hs < 1000) (hT : T + hs < 2 ^ 30) (hR : RK T c s z n) (hk : litk z n) (h : ∀ s', RK (T + hs) c s' (zHours z n hs).2 n → litk (zHours z n hs).2 n → Q (zHours z n hs).1 s') : wp_X2_pass (nI hs) s Q :=
  x2_pass_L (kx := fun x _ s => Q x s) hh hT h hs mF 0 s (by omega) (by unfold mF; omega) hR hk
end HH
