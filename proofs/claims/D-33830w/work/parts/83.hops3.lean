set_option maxRecDepth 100000
/-! PLAIN: a new lot, settings, copies -/
section HN
variable {n j T c : Nat} {y y' : MS} {s : HS} {L : List Int32} {z z' : Zz} {f g : Nat → Int32}
def yF (y : MS) (j : Nat) : Nat → Int32 := fun w => if w = 2 then y 0 j else if w = 3 then y 1 j else if w = 4 then y 2 j else if w = 5 then y 3 j else if w = 6 then y 4 j else if w = 7 then y 5 j else y 6 j
theorem yF_E1 : E1 y (yF y j) j := by
  unfold E1 yF
  simp
theorem newF_v (f : Nat → Int32) (x : Int32) : newF f x 0 = 0 ∧ newF f x 1 = -1 ∧ newF f x 2 = x ∧ newF f x 3 = 0 ∧ newF f x 4 = 12 ∧ newF f x 5 = 0 ∧ newF f x 6 = 15 ∧ newF f x 7 = 0 ∧ newF f x 8 = 0 := by
  unfold newF
  refine ⟨?_, ?_, ?_, ?_, ?_, ?_, ?_, ?_, ?_⟩ <;> simp [upd]
theorem x2_add {x : Int32} {Q : Int32 → HS → Prop} (hR : RK T (c + 12) s z n) (hk : litk z n) (hn : n < 12) (h : ∀ s', RK T c s' (zAdd z n x) (n + 1) → litk (zAdd z n x) (n + 1) → Q (nI n) s') : wp_X2_add x s Q := by
  obtain ⟨hH, hc⟩ := id hR
  obtain ⟨e0, hE, hS, hG, hD, hB, hI⟩ := id hH
  obtain ⟨⟨h12, h7⟩, hl, i1, i2, i3, i34, iS, s9, s10, s11⟩ := id hI
  have hlots := hH.lots
  unfold wp_X2_add
  rw [hlots, cl hn]
  have hv : vp_in (nI n) 12 := vl hn
  refine fun s1 e1 => ⟨hv, fun s2 e2 => ⟨hv, fun s3 e3 => ⟨hv, fun s4 e4 => ⟨hv, fun s5 e5 => ⟨hv, fun s6 e6 => ⟨hv, fun s7 e7 => ⟨hv, fun s8 e8 => ?_⟩⟩⟩⟩⟩⟩⟩
  have e1' : s1 = (hLot (mU s.1 11 1 (nI n + 1)) n (yF (mU s.1 11 1 (nI n + 1)) n), s.2) := by
    rw [hLot_self yF_E1]
    exact e1
  subst e1'
  rw [hU_0] at e2
  subst e2
  rw [hU_1] at e3
  subst e3
  rw [hU_2] at e4
  subst e4
  rw [hU_3] at e5
  subst e5
  rw [hU_4] at e6
  subst e6
  rw [hU_5] at e7
  subst e7
  rw [hU_6] at e8
  subst e8
  obtain ⟨n0, n1, n2, n3, n4, n5, n6, n7, n8⟩ := newF_v (ofz z n) x
  have hz : ∀ k w, w < 9 → ofz (zAdd z n x) k w = if k = n then newF (ofz z n) x w else ofz z k w := fun k w hw => by
    unfold zAdd
    rw [ofz_lot hw, ofz_sc (by decide)]
  have hs : ∀ i, i ≠ 7 → i < 44 → zAdd z n x i = z i := fun i h1 h2 => by
    unfold zAdd
    rw [zLot_sc h2, pk_un h1]
  have hs7 : zAdd z n x 7 = nI (n + 1) := by
    unfold zAdd
    rw [zLot_sc (by decide), pk_us, h7, nI_succ]
  have hlast : ∀ k w, k < n → w < 9 → ofz (zAdd z n x) k w = ofz z k w := fun k w hk1 hw => by
    rw [hz k w hw, if_neg (by omega)]
  have hnew : ∀ w, w < 9 → ofz (zAdd z n x) n w = newF (ofz z n) x w := fun w hw => by
    rw [hz n w hw, if_pos rfl]
  refine h _ ⟨⟨?_, fun k hk1 => ?_, hS.same (fun b i h1 _ => (hLot_b (by omega)).trans (mU_at (by omega))) (fun i h1 h2 => hs i (by omega) (by omega)), fun k hk1 => ?_, ⟨fun d k hd hk1 => ?_, fun d hd => ?_⟩, hB.same (hs 14 (by decide) (by decide)) (fun i h1 h2 => hs i (by omega) (by omega)), ⟨⟨by omega, hs7⟩, fun k hk1 => ?_, ?_, ?_, ?_, ?_, fun i h1 h2 => ?_, ?_, ?_, ?_⟩⟩, ?_⟩ (fun q => ?_)
  · exact e0.one 1 7 (by decide) ((hLot_b (by decide)).trans (mU_us.trans (by rw [hs7, nI_succ]))) (fun i _ _ hi => (hLot_b (by decide)).trans (mU_at (by omega))) (fun i hi1 hi => hs i hi (by omega))
  · by_cases e : k = n
    · subst e
      have q := hLot_E1 (y := mU s.1 11 1 (nI k + 1)) (j := k) (f := upd (upd (upd (upd (upd (upd (upd (yF (mU s.1 11 1 (nI k + 1)) k) 2 x) 3 0) 4 12) 5 0) 6 15) 7 0) 0 0)
      obtain ⟨q6, q0, q1, q2, q3, q4, q5⟩ := q
      refine ⟨q6.trans ?_, q0.trans ?_, q1.trans ?_, q2.trans ?_, q3.trans ?_, q4.trans ?_, q5.trans ?_⟩
      · rw [hnew 0 (by decide), n0]; simp [upd]
      · rw [hnew 2 (by decide), n2]; simp [upd]
      · rw [hnew 3 (by decide), n3]; simp [upd]
      · rw [hnew 4 (by decide), n4]; simp [upd]
      · rw [hnew 5 (by decide), n5]; simp [upd]
      · rw [hnew 6 (by decide), n6]; simp [upd]
      · rw [hnew 7 (by decide), n7]; simp [upd]
    · obtain ⟨p6, p0, p1, p2, p3, p4, p5⟩ := hE k (by omega)
      have qq : ∀ b, b < 7 → hLot (mU s.1 11 1 (nI n + 1)) n (upd (upd (upd (upd (upd (upd (upd (yF (mU s.1 11 1 (nI n + 1)) n) 2 x) 3 0) 4 12) 5 0) 6 15) 7 0) 0 0) b k = s.1 b k := fun b hb => (hLot_ne e).trans (mU_at (by omega))
      have hk2 : k < n := by omega
      exact ⟨(qq 6 (by decide)).trans (p6.trans (hlast k 0 hk2 (by decide)).symm), (qq 0 (by decide)).trans (p0.trans (hlast k 2 hk2 (by decide)).symm), (qq 1 (by decide)).trans (p1.trans (hlast k 3 hk2 (by decide)).symm), (qq 2 (by decide)).trans (p2.trans (hlast k 4 hk2 (by decide)).symm), (qq 3 (by decide)).trans (p3.trans (hlast k 5 hk2 (by decide)).symm), (qq 4 (by decide)).trans (p4.trans (hlast k 6 hk2 (by decide)).symm), (qq 5 (by decide)).trans (p5.trans (hlast k 7 hk2 (by decide)).symm)⟩
  · show bt (hLot (mU s.1 11 1 (nI n + 1)) n _ 11 0) k = _
    rw [hLot_b (by decide), mU_at (by decide), hG k hk1]
    by_cases e : k = n
    · subst e
      rw [hnew 8 (by decide), n8]
      simp
    · congr 1
      apply propext
      by_cases e2 : k < n
      · rw [hlast k 8 e2 (by decide)]
        exact ⟨fun q => ⟨by omega, q.2⟩, fun q => ⟨e2, q.2⟩⟩
      · exact ⟨fun q => absurd q.1 e2, fun q => absurd q.1 (by omega)⟩
  · show hLot (mU s.1 11 1 (nI n + 1)) n _ 7 d = nI k ↔ _
    rw [hLot_b (by decide), mU_at (by omega)]
    by_cases e : k = n
    · subst e
      rw [hnew 0 (by decide), n0]
      refine ⟨fun q => ?_, fun q => absurd q.1 (by decide)⟩
      rcases hD.2 d hd with r | ⟨i, hi, r⟩
      · rw [r] at q
        exact absurd q (m1_ne (by omega))
      · rw [r] at q
        exact absurd ((nI_eq (by omega) (by omega)).1 q) (by omega)
    · rw [hlast k 0 (by omega) (by decide), hlast k 1 (by omega) (by decide)]
      exact hD.1 d k hd (by omega)
  · show hLot (mU s.1 11 1 (nI n + 1)) n _ 7 d = _ ∨ _
    rw [hLot_b (by decide), mU_at (by omega)]
    rcases hD.2 d hd with r | ⟨i, hi, r⟩
    · exact Or.inl r
    · refine Or.inr ⟨i, by omega, ?_⟩
      show hLot (mU s.1 11 1 (nI n + 1)) n _ 7 d = _
      rw [hLot_b (by decide), mU_at (by omega)]
      exact r
  · by_cases e : k = n
    · subst e
      refine LI_congr (f := newF (ofz z k) x) (fun w hw => (hnew w hw).symm) ?_
      unfold LI
      rw [n0, n1, n4, n5, n6, n8]
      exact ⟨fun q => absurd q (by decide), fun _ => rfl, by decide, fun _ => ⟨by decide, Or.inr rfl⟩, by decide, fun q => absurd q (by decide), Or.inl rfl⟩
    · exact LI_congr (fun w hw => (hlast k w (by omega) hw).symm) (hl k (by omega))
  · rw [hs 1 (by decide) (by decide)]; exact i1
  · rw [hs 2 (by decide) (by decide)]; exact i2
  · rw [hs 1 (by decide) (by decide), hs 2 (by decide) (by decide)]; exact i3
  · rw [hs 3 (by decide) (by decide), hs 4 (by decide) (by decide)]; exact i34
  · rw [hs i (by omega) (by omega)]; exact iS i h1 h2
  · rw [hs 9 (by decide) (by decide), s9]
    show sM z 2 n = sM (zAdd z n x) 2 n + (if ofz (zAdd z n x) n 0 = 5 then ofz (zAdd z n x) n 2 else 0)
    rw [hnew 0 (by decide), n0, if_neg (by decide), Int32.add_zero, sM_congr (z := z) (by decide) hlast]
  · rw [hs 10 (by decide) (by decide), s10]
    show sM z 3 n = sM (zAdd z n x) 3 n + (if ofz (zAdd z n x) n 0 = 5 then ofz (zAdd z n x) n 3 else 0)
    rw [hnew 0 (by decide), n0, if_neg (by decide), Int32.add_zero, sM_congr (z := z) (by decide) hlast]
  · rw [hs 11 (by decide) (by decide), s11]
    show zwgt z n 6 = zwgt (zAdd z n x) n 6 + (if ofz (zAdd z n x) n 0 = 6 then ofz (zAdd z n x) n 2 + ofz (zAdd z n x) n 3 else 0)
    rw [hnew 0 (by decide), n0, if_neg (by decide), Int32.add_zero, zwgt_congr (z := z) hlast]
  · show 12 * lvs (zAdd z n x) (n + 1) + c ≤ s.2.2
    rw [lvs, lvs_congr (z := zAdd z n x) (z' := z) n (fun k hk1 => hlast k 0 hk1 (by decide))]
    split <;> omega
  · rw [hs 1 (by decide) (by decide)] at q
    obtain ⟨k, hk1, e⟩ := hk q
    exact ⟨k, by omega, (hlast k 0 hk1 (by decide)).trans e⟩
theorem RK_set {d w : Nat} {x : Int32} (hR : RK T c s z n) (hd : d < 4) (hw : w < 3) (hx : 0 ≤ x.toInt ∧ x.toInt ≤ 3) : RK T c (mU s.1 (8 + w) d x, s.2) (upd z (32 + 3 * d + w) x) n := by
  obtain ⟨⟨h0, hE, hS, hG, hD, hB, hI⟩, hc⟩ := hR
  obtain ⟨⟨h12, h7⟩, hl, i1, i2, i3, b34, bS, s9, s10, s11⟩ := id hI
  have hzz : ∀ k v, v < 9 → ofz (upd z (32 + 3 * d + w) x) k v = ofz z k v := fun k v _ => ofz_sc (by omega)
  have hz : ∀ i, i ≠ 32 + 3 * d + w → upd z (32 + 3 * d + w) x i = z i := fun i hi => pk_un hi
  refine ⟨⟨h0.same (fun i _ _ => mU_at (by omega)) (fun i hi => hz i (by omega)), hE.same (fun b i hb => mU_at (by omega)) hzz, fun e he => ?_, hG.same (mU_at (by omega)) (fun k _ => hzz k 8 (by decide)), hD.same (fun e he => mU_at (by omega)) (fun k v _ hv => hzz k v (by omega)), hB.same (hz 14 (by omega)) (fun i h1 h2 => hz i (by omega)), ⟨⟨h12, (hz 7 (by omega)).trans h7⟩, fun k hk => LI_congr (fun v hv => (hzz k v hv).symm) (hl k hk), ?_, ?_, ?_, ?_, fun i h1 h2 => ?_, ?_, ?_, ?_⟩⟩, ?_⟩
  · obtain ⟨e1, e2, e3⟩ := hS e he
    have q : ∀ v, v < 3 → s.1 (8 + v) e = z (32 + 3 * e + v) → mU s.1 (8 + w) d x (8 + v) e = upd z (32 + 3 * d + w) x (32 + 3 * e + v) := by
      intro v hv hh
      by_cases ee : v = w ∧ e = d
      · rw [ee.1, ee.2, mU_us, pk_us]
      · rw [mU_at (by omega), pk_un (by omega)]
        exact hh
    exact ⟨q 0 (by decide) e1, q 1 (by decide) e2, q 2 (by decide) e3⟩
  · rw [hz 1 (by omega)]; exact i1
  · rw [hz 2 (by omega)]; exact i2
  · rw [hz 1 (by omega), hz 2 (by omega)]; exact i3
  · rw [hz 3 (by omega), hz 4 (by omega)]; exact b34
  · by_cases e : i = 32 + 3 * d + w
    · rw [e, pk_us]; exact hx
    · rw [hz i e]; exact bS i h1 h2
  · rw [hz 9 (by omega), sM_congr (z := z) (by decide) (fun k w _ hw => hzz k w hw)]; exact s9
  · rw [hz 10 (by omega), sM_congr (z := z) (by decide) (fun k w _ hw => hzz k w hw)]; exact s10
  · rw [hz 11 (by omega), zwgt_congr (z := z) (fun k w _ hw => hzz k w hw)]; exact s11
  · rw [lvs_congr (z := upd z (32 + 3 * d + w) x) (z' := z) n (fun k _ => hzz k 0 (by decide))]; exact hc
theorem RK_heats {lo hi : Int32} (hR : RK T c s z n) (hlo : 30 ≤ lo.toInt ∧ lo.toInt ≤ 60) (hhi : 60 ≤ hi.toInt ∧ hi.toInt ≤ 99) : RK T c (mU (mU s.1 11 5 lo) 11 6 hi, s.2) (upd (upd z 3 lo) 4 hi) n := by
  obtain ⟨⟨h0, hE, hS, hG, hD, hB, hI⟩, hc⟩ := hR
  obtain ⟨⟨h12, h7⟩, hl, i1, i2, i3, b34, bS, s9, s10, s11⟩ := id hI
  have hz : ∀ i, i ≠ 3 → i ≠ 4 → upd (upd z 3 lo) 4 hi i = z i := fun i h3 h4 => by rw [pk_un h4, pk_un h3]
  have hzz : ∀ k v, v < 9 → ofz (upd (upd z 3 lo) 4 hi) k v = ofz z k v := fun k v _ => hz _ (by omega) (by omega)
  have hy66 : ∀ i, i ≠ 6 → mU (mU s.1 11 5 lo) 11 6 hi 11 i = mU s.1 11 5 lo 11 i := fun i hq => mU_at (Or.inr hq)
  have hy6 : mU (mU s.1 11 5 lo) 11 6 hi 11 6 = upd (upd z 3 lo) 4 hi 4 := mU_us.trans pk_us.symm
  have hE5 : E0 (mU s.1 11 5 lo) (upd z 3 lo) := h0.one 5 3 (by decide) (mU_us.trans pk_us.symm) (fun i _ _ hq => mU_at (Or.inr hq)) (fun i _ hq => pk_un hq)
  have hy : ∀ b i, (b ≠ 11 ∨ (i ≠ 5 ∧ i ≠ 6)) → mU (mU s.1 11 5 lo) 11 6 hi b i = s.1 b i := fun b i hb => (mU_at (by omega)).trans (mU_at (by omega))
  refine ⟨⟨E0.one 6 4 (by decide) (y := mU s.1 11 5 lo) (z := upd z 3 lo) hE5 hy6 (fun i _ _ hq => hy66 i hq) (fun i _ hq => pk_un hq), hE.same (fun b i hb => hy b i (by omega)) hzz, hS.same (fun b i h1 h2 => hy b i (by omega)) (fun i h1 h2 => hz i (by omega) (by omega)), hG.same (hy 11 0 (by omega)) (fun k _ => hzz k 8 (by decide)), hD.same (fun e he => hy 7 e (by omega)) (fun k v _ hv => hzz k v (by omega)), hB.same (hz 14 (by omega) (by omega)) (fun i h1 h2 => hz i (by omega) (by omega)), ⟨⟨h12, (hz 7 (by omega) (by omega)).trans h7⟩, fun k hk => LI_congr (fun v hv => (hzz k v hv).symm) (hl k hk), ?_, ?_, ?_, ?_, fun i h1 h2 => ?_, ?_, ?_, ?_⟩⟩, ?_⟩
  · rw [hz 1 (by omega) (by omega)]; exact i1
  · rw [hz 2 (by omega) (by omega)]; exact i2
  · rw [hz 1 (by omega) (by omega), hz 2 (by omega) (by omega)]; exact i3
  · rw [pk_us, pk_un (by decide), pk_us]; exact ⟨hlo, hhi⟩
  · rw [hz i (by omega) (by omega)]; exact bS i h1 h2
  · rw [hz 9 (by omega) (by omega), sM_congr (z := z) (by decide) (fun k w _ hw => hzz k w hw)]; exact s9
  · rw [hz 10 (by omega) (by omega), sM_congr (z := z) (by decide) (fun k w _ hw => hzz k w hw)]; exact s10
  · rw [hz 11 (by omega) (by omega), zwgt_congr (z := z) (fun k w _ hw => hzz k w hw)]; exact s11
  · rw [lvs_congr (z := upd (upd z 3 lo) 4 hi) (z' := z) n (fun k _ => hzz k 0 (by decide))]; exact hc
theorem RH.copy (h : RH T y L z n) (h1 : ∀ b i, b < 7 → i < n → y' b i = y b i) (h2 : ∀ b d, 7 ≤ b → b < 11 → d < 4 → y' b d = y b d) (h3 : ∀ i, i < 12 → y' 11 i = y 11 i) : RH T y' L z n := by
  obtain ⟨h0, hE, hS, hG, hD, hB, hI⟩ := h
  refine ⟨h0.same (fun i _ hi => h3 i hi) (fun _ _ => rfl), fun k hk => ?_, fun d hd => ?_, hG.same (h3 0 (by decide)) (fun _ _ => rfl), hD.same (fun d hd => h2 7 d (by decide) (by decide) hd) (fun _ _ _ _ => rfl), hB, hI⟩
  · obtain ⟨p6, p0, p1, p2, p3, p4, p5⟩ := hE k hk
    exact ⟨(h1 6 k (by decide) hk).trans p6, (h1 0 k (by decide) hk).trans p0, (h1 1 k (by decide) hk).trans p1, (h1 2 k (by decide) hk).trans p2, (h1 3 k (by decide) hk).trans p3, (h1 4 k (by decide) hk).trans p4, (h1 5 k (by decide) hk).trans p5⟩
  · obtain ⟨e1, e2, e3⟩ := hS d hd
    exact ⟨(h2 8 d (by decide) (by decide) hd).trans e1, (h2 9 d (by decide) (by decide) hd).trans e2, (h2 10 d (by decide) (by decide) hd).trans e3⟩
theorem ofz_zc (hz : ∀ i, i < 153 → z' i = z i) {k w : Nat} (hk : k < 12) (hw : w < 9) : ofz z' k w = ofz z k w := hz _ (by omega)
theorem RH.zc (hz : ∀ i, i < 153 → z' i = z i) (h : RH T y L z n) : RH T y L z' n := by
  obtain ⟨h0, hE, hS, hG, hD, hB, hI⟩ := h
  obtain ⟨⟨h12, h7⟩, hl, i1, i2, i3, b34, bS, s9, s10, s11⟩ := id hI
  have hzz : ∀ k v, k < n → v < 9 → ofz z' k v = ofz z k v := fun k v hk hv => ofz_zc hz (by omega) hv
  refine ⟨h0.same (fun i _ hi => rfl) (fun i hi => hz i (by omega)), fun k hk => ?_, hS.same (fun _ _ _ _ => rfl) (fun i h1 h2 => hz i (by omega)), hG.same rfl (fun k hk => hzz k 8 hk (by decide)), hD.same (fun _ _ => rfl) (fun k v hk hv => hzz k v hk (by omega)), hB.same (hz 14 (by decide)) (fun i h1 h2 => hz i (by omega)), ⟨⟨h12, (hz 7 (by decide)).trans h7⟩, fun k hk => LI_congr (fun v hv => (hzz k v hk hv).symm) (hl k hk), ?_, ?_, ?_, ?_, fun i h1 h2 => ?_, ?_, ?_, ?_⟩⟩
  · obtain ⟨p6, p0, p1, p2, p3, p4, p5⟩ := hE k hk
    exact ⟨p6.trans (hzz k 0 hk (by decide)).symm, p0.trans (hzz k 2 hk (by decide)).symm, p1.trans (hzz k 3 hk (by decide)).symm, p2.trans (hzz k 4 hk (by decide)).symm, p3.trans (hzz k 5 hk (by decide)).symm, p4.trans (hzz k 6 hk (by decide)).symm, p5.trans (hzz k 7 hk (by decide)).symm⟩
  · rw [hz 1 (by decide)]; exact i1
  · rw [hz 2 (by decide)]; exact i2
  · rw [hz 1 (by decide), hz 2 (by decide)]; exact i3
  · rw [hz 3 (by decide), hz 4 (by decide)]; exact b34
  · rw [hz i (by omega)]; exact bS i h1 h2
  · rw [hz 9 (by decide), sM_congr (z := z) (by decide) hzz]; exact s9
  · rw [hz 10 (by decide), sM_congr (z := z) (by decide) hzz]; exact s10
  · rw [hz 11 (by decide), zwgt_congr (z := z) hzz]; exact s11
theorem litk_zc (hz : ∀ i, i < 153 → z' i = z i) (h12 : n ≤ 12) (h : litk z n) : litk z' n := by
  intro q
  rw [hz 1 (by decide)] at q
  obtain ⟨k, hk, e⟩ := h q
  exact ⟨k, hk, (ofz_zc hz (by omega) (by decide)).trans e⟩
end HN
