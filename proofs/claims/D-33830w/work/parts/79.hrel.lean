set_option maxRecDepth 100000
/-! PLAIN: how the relation is kept -/
section RL
variable {n j T : Nat} {y y' : MS} {L : List Int32} {z z' : Zz} {g : Nat → Int32}
theorem EL.lot (h : EL y z n) (hg : E1 y' g j) (hy : ∀ b i, b < 7 → i ≠ j → y' b i = y b i) (hz : ∀ k w, w < 9 → ofz z' k w = if k = j then g w else ofz z k w) : EL y' z' n := by
  intro k hk
  by_cases e : k = j
  · subst e
    obtain ⟨e6, e0, e1, e2, e3, e4, e5⟩ := hg
    have q : ∀ w, w < 9 → g w = ofz z' k w := fun w hw => ((hz k w hw).trans (if_pos rfl)).symm
    exact ⟨e6.trans (q 0 (by decide)), e0.trans (q 2 (by decide)), e1.trans (q 3 (by decide)), e2.trans (q 4 (by decide)), e3.trans (q 5 (by decide)), e4.trans (q 6 (by decide)), e5.trans (q 7 (by decide))⟩
  · obtain ⟨e6, e0, e1, e2, e3, e4, e5⟩ := h k hk
    have q : ∀ w, w < 9 → ofz z k w = ofz z' k w := fun w hw => ((hz k w hw).trans (if_neg e)).symm
    exact ⟨(hy 6 k (by decide) e).trans (e6.trans (q 0 (by decide))), (hy 0 k (by decide) e).trans (e0.trans (q 2 (by decide))), (hy 1 k (by decide) e).trans (e1.trans (q 3 (by decide))), (hy 2 k (by decide) e).trans (e2.trans (q 4 (by decide))), (hy 3 k (by decide) e).trans (e3.trans (q 5 (by decide))), (hy 4 k (by decide) e).trans (e4.trans (q 6 (by decide))), (hy 5 k (by decide) e).trans (e5.trans (q 7 (by decide)))⟩
theorem EL.same (h : EL y z n) (hy : ∀ b i, b < 7 → y' b i = y b i) (hz : ∀ k w, w < 9 → ofz z' k w = ofz z k w) : EL y' z' n := by
  intro k hk
  obtain ⟨e6, e0, e1, e2, e3, e4, e5⟩ := h k hk
  have q : ∀ w, w < 9 → ofz z k w = ofz z' k w := fun w hw => (hz k w hw).symm
  exact ⟨(hy 6 k (by decide)).trans (e6.trans (q 0 (by decide))), (hy 0 k (by decide)).trans (e0.trans (q 2 (by decide))), (hy 1 k (by decide)).trans (e1.trans (q 3 (by decide))), (hy 2 k (by decide)).trans (e2.trans (q 4 (by decide))), (hy 3 k (by decide)).trans (e3.trans (q 5 (by decide))), (hy 4 k (by decide)).trans (e4.trans (q 6 (by decide))), (hy 5 k (by decide)).trans (e5.trans (q 7 (by decide)))⟩
theorem ES.same (h : ES y z) (hy : ∀ b i, 8 ≤ b → b < 11 → y' b i = y b i) (hz : ∀ i, 32 ≤ i → i < 44 → z' i = z i) : ES y' z' := by
  intro d hd
  obtain ⟨e1, e2, e3⟩ := h d hd
  exact ⟨(hy 8 d (by decide) (by decide)).trans (e1.trans (hz _ (by omega) (by omega)).symm), (hy 9 d (by decide) (by decide)).trans (e2.trans (hz _ (by omega) (by omega)).symm), (hy 10 d (by decide) (by decide)).trans (e3.trans (hz _ (by omega) (by omega)).symm)⟩
theorem EG.same (h : EG y z n) (hy : y' 11 0 = y 11 0) (hz : ∀ k, k < n → ofz z' k 8 = ofz z k 8) : EG y' z' n := by
  intro k hk
  rw [hy, h k hk]
  congr 1
  apply propext
  exact ⟨fun q => ⟨q.1, (hz k q.1).trans q.2⟩, fun q => ⟨q.1, (hz k q.1).symm.trans q.2⟩⟩
theorem ED.same (h : ED y z n) (hy : ∀ d, d < 4 → y' 7 d = y 7 d) (hz : ∀ k w, k < n → w < 2 → ofz z' k w = ofz z k w) : ED y' z' n := by
  refine ⟨fun d k hd hk => ?_, fun d hd => ?_⟩
  · rw [hy d hd, hz k 0 hk (by decide), hz k 1 hk (by decide)]
    exact h.1 d k hd hk
  · rw [hy d hd]
    exact h.2 d hd
theorem EB.same (h : EB L z) (h14 : z' 14 = z 14) (hz : ∀ i, 20 ≤ i → i < 32 → z' i = z i) : EB L z' := by
  obtain ⟨a, b, c⟩ := h
  refine ⟨a, h14.trans b, fun k hk => ?_⟩
  rw [hz _ (by omega) (by omega)]
  exact c k hk
theorem ilst_tab : ∀ m, m < 13 → ilst (nI m + 1) 12 = nI (min 11 m + 1) := by decide +kernel
theorem EB.note {p l tm : Int32} (h : EB L z) (h14 : z' 14 = z 14) (hz : ∀ i, 20 ≤ i → i < 32 → z' i = z i) (h0 : z' 0 = tm) : EB ((100 * tm + 12 * p + l) :: L.take 11) (zBooks z' p l) := by
  obtain ⟨a, b, c⟩ := h
  refine ⟨?_, ?_, fun k hk => ?_⟩
  · rw [List.length_cons, List.length_take]
    omega
  · rw [List.length_cons, List.length_take, zBooks_14, h14, b, ilst_tab _ (by omega)]
  · rcases k with _ | k
    · rw [zBooks_20, h0]
      rfl
    · rw [List.length_cons, List.length_take] at hk
      rw [zBooks_e (by omega), List.getElem?_cons_succ, List.getElem?_take_of_lt (by omega), hz _ (by omega) (by omega)]
      exact c k (by omega)
theorem LI_congr {f : Nat → Int32} (hw : ∀ w, w < 9 → f w = g w) (h : LI f) : LI g := by
  have e0 := hw 0 (by decide)
  have e1 := hw 1 (by decide)
  have e4 := hw 4 (by decide)
  have e5 := hw 5 (by decide)
  have e6 := hw 6 (by decide)
  have e8 := hw 8 (by decide)
  unfold LI at h ⊢
  rw [e0, e1, e4, e5, e6, e8] at h
  exact h
theorem sM_one {w : Nat} {d : Int32} (hj : j < n) (hw : w < 9) (hz : ∀ k w, w < 9 → ofz z' k w = if k = j then g w else ofz z k w) (hd : (if g 0 = 5 then g w else 0) = (if ofz z j 0 = 5 then ofz z j w else 0) + d) : sM z' w n = sM z w n + d := by
  refine l_sum_one (j := j) n hj (fun i hi hn => ?_) ?_
  · show (if ofz z' i 0 = 5 then ofz z' i w else 0) = if ofz z i 0 = 5 then ofz z i w else 0
    rw [hz i 0 (by decide), hz i w hw, if_neg hn, if_neg hn]
  · show (if ofz z' j 0 = 5 then ofz z' j w else 0) = (if ofz z j 0 = 5 then ofz z j w else 0) + d
    rw [hz j 0 (by decide), hz j w hw, if_pos rfl, if_pos rfl]
    exact hd
theorem zwgt_one {p d : Int32} (hj : j < n) (hz : ∀ k w, w < 9 → ofz z' k w = if k = j then g w else ofz z k w) (hd : (if g 0 = p then g 2 + g 3 else 0) = (if ofz z j 0 = p then ofz z j 2 + ofz z j 3 else 0) + d) : zwgt z' n p = zwgt z n p + d := by
  refine l_sum_one (j := j) n hj (fun i hi hn => ?_) ?_
  · show (if ofz z' i 0 = p then ofz z' i 2 + ofz z' i 3 else 0) = if ofz z i 0 = p then ofz z i 2 + ofz z i 3 else 0
    rw [hz i 0 (by decide), hz i 2 (by decide), hz i 3 (by decide), if_neg hn, if_neg hn, if_neg hn]
  · show (if ofz z' j 0 = p then ofz z' j 2 + ofz z' j 3 else 0) = (if ofz z j 0 = p then ofz z j 2 + ofz z j 3 else 0) + d
    rw [hz j 0 (by decide), hz j 2 (by decide), hz j 3 (by decide), if_pos rfl, if_pos rfl, if_pos rfl]
    exact hd
theorem sM_congr {w : Nat} (hw : w < 9) (hz : ∀ k w, k < n → w < 9 → ofz z' k w = ofz z k w) : sM z' w n = sM z w n := by
  refine l_sum_congr n (fun k hk => ?_)
  rw [hz k 0 hk (by decide), hz k w hk hw]
theorem zwgt_congr {p : Int32} (hz : ∀ k w, k < n → w < 9 → ofz z' k w = ofz z k w) : zwgt z' n p = zwgt z n p := by
  refine l_sum_congr n (fun k hk => ?_)
  rw [hz k 0 hk (by decide), hz k 2 hk (by decide), hz k 3 hk (by decide)]
/-- a lot's change keeps the invariant -/
theorem IV.lotH (h : IV z n T) (hz : ∀ k w, w < 9 → ofz z' k w = if k = j then g w else ofz z k w) (hg : LI g) (hs : ∀ i, (1 ≤ i ∧ i < 5) ∨ i = 7 ∨ (32 ≤ i ∧ i < 44) → z' i = z i) (h9 : z' 9 = sM z' 2 n) (h10 : z' 10 = sM z' 3 n) (h11 : z' 11 = zwgt z' n 6) : IV z' n T := by
  obtain ⟨⟨a1, a2⟩, a3, a4, a5, a6, a7, a8, -⟩ := h
  refine ⟨⟨a1, (hs 7 (by omega)).trans a2⟩, fun k hk => ?_, ?_, ?_, ?_, ?_, fun i h1 h2 => ?_, h9, h10, h11⟩
  · by_cases e : k = j
    · exact LI_congr (fun w hw => ((hz k w hw).trans (if_pos e)).symm) hg
    · exact LI_congr (fun w hw => ((hz k w hw).trans (if_neg e)).symm) (a3 k hk)
  · rw [hs 1 (by omega)]; exact a4
  · rw [hs 2 (by omega)]; exact a5
  · rw [hs 1 (by omega), hs 2 (by omega)]; exact a6
  · rw [hs 3 (by omega), hs 4 (by omega)]; exact a7
  · rw [hs i (by omega)]; exact a8 i h1 h2
/-- .. of a lot that isn't malt nor spoilt, neither then nor now -/
theorem IV.lot0 (h : IV z n T) (hj : j < n) (hz : ∀ k w, w < 9 → ofz z' k w = if k = j then g w else ofz z k w) (hg : LI g) (hs : ∀ i, (1 ≤ i ∧ i < 5) ∨ i = 7 ∨ (9 ≤ i ∧ i < 12) ∨ (32 ≤ i ∧ i < 44) → z' i = z i) (f5 : ofz z j 0 ≠ 5) (f6 : ofz z j 0 ≠ 6) (g5 : g 0 ≠ 5) (g6 : g 0 ≠ 6) : IV z' n T := by
  obtain ⟨-, -, -, -, -, -, -, b9, b10, b11⟩ := id h
  have q : ∀ w, w < 9 → sM z' w n = sM z w n := fun w hw => by
    have := sM_one (d := 0) hj hw hz (by rw [if_neg g5, if_neg f5]; rfl)
    rw [this, Int32.add_zero]
  refine h.lotH hz hg (fun i hi => hs i (by omega)) ?_ ?_ ?_
  · rw [q 2 (by decide), hs 9 (by omega)]; exact b9
  · rw [q 3 (by decide), hs 10 (by omega)]; exact b10
  · have := zwgt_one (p := 6) (d := 0) hj hz (by rw [if_neg g6, if_neg f6]; rfl)
    rw [this, Int32.add_zero, hs 11 (by omega)]; exact b11
theorem lvs_lot (hj : j < n) (hz : ∀ k w, w < 9 → ofz z' k w = if k = j then g w else ofz z k w) : lvs z' n + (if ofz z j 0 = 5 ∨ ofz z j 0 = 6 then 0 else 1) = lvs z n + (if g 0 = 5 ∨ g 0 = 6 then 0 else 1) := by
  have h := lvs_one (z := z') (z' := z) n hj (fun i hi hn => (hz i 0 (by decide)).trans (if_neg hn))
  rw [hz j 0 (by decide), if_pos rfl] at h
  exact h
/-! the lots' invariants -/
theorem ste_tab : ∀ k, k < 47 → 12 ≤ k → 12 ≤ (ilst 46 (nI k + 4)).toInt ∧ (ilst 46 (nI k + 4)).toInt ≤ 46 := by decide +kernel
theorem LI_ste {f : Nat → Int32} (h : LI f) (h1 : f 0 = 1) : LI (steF f) := by
  obtain ⟨a1, a2, a3, a4, a5, a6, a7⟩ := h
  obtain ⟨b4, b6⟩ := a4 (Or.inr h1)
  have e0 : steF f 0 = f 0 := by simp [steF, upd]
  have e1 : steF f 1 = f 1 := by simp [steF, upd]
  have e4 : steF f 4 = ilst 46 (f 4 + 4) := by simp [steF, upd]
  have e5 : steF f 5 = f 5 := by simp [steF, upd]
  have e6 : steF f 6 = if f 6 ≤ 14 then ilst 14 (f 6 + 2) else imst 14 (f 6 - 2) := by simp [steF, upd]
  have e8 : steF f 8 = f 8 := by simp [steF, upd]
  obtain ⟨k, hk, ek⟩ := to_nI (x := f 4) (n := 46) (by omega) (by omega)
  have hk2 : 12 ≤ k := by
    rw [ek, nI_toInt (by omega)] at b4
    omega
  have w := ste_tab k (by omega) hk2
  rw [← ek] at w
  unfold LI
  rw [e0, e1, e4, e5, e6, e8]
  refine ⟨a1, a2, ⟨by omega, by omega⟩, fun _ => ⟨w, ?_⟩, a5, fun c => ?_, a7⟩
  · rcases b6 with q | q <;> rw [q] <;> decide
  · rw [h1] at c; exact absurd c (by decide)
theorem gWet_tab : ∀ k, k < 49 → 3 ≤ k → ∀ a, a < 4 → ∀ d, d < 4 → 3 ≤ (if gDry (nI a) (nI d) ≤ 0 then nI k else imst 12 (nI k - gDry (nI a) (nI d))).toInt ∧ (if gDry (nI a) (nI d) ≤ 0 then nI k else imst 12 (nI k - gDry (nI a) (nI d))).toInt ≤ 48 := by decide +kernel
theorem gWet_ok {f : Nat → Int32} {a d : Int32} (h4 : 3 ≤ (f 4).toInt ∧ (f 4).toInt ≤ 48) (ha : 0 ≤ a.toInt ∧ a.toInt ≤ 3) (hd : 0 ≤ d.toInt ∧ d.toInt ≤ 3) : 3 ≤ (gWet f a d).toInt ∧ (gWet f a d).toInt ≤ 48 := by
  obtain ⟨k, hk, ek⟩ := to_nI (x := f 4) (n := 48) (by omega) (by omega)
  obtain ⟨a0, ha0, ea⟩ := to_nI (x := a) (n := 3) (by omega) (by omega)
  obtain ⟨d0, hd0, ed⟩ := to_nI (x := d) (n := 3) (by omega) (by omega)
  have hk2 : 3 ≤ k := by
    rw [ek, nI_toInt (by omega)] at h4
    omega
  unfold gWet
  rw [ek, ea, ed]
  exact gWet_tab k (by omega) hk2 a0 (by omega) d0 (by omega)
theorem ilst_le (a b : Int32) : ilst a b ≤ a := by
  unfold ilst
  split
  · next h => exact h
  · exact Int32.le_refl _
theorem imst_10 {x : Int32} (h : ¬ 42 < x) : 10 ≤ (imst 10 x).toInt ∧ (imst 10 x).toInt ≤ 42 := by
  unfold imst
  rw [Int32.lt_iff_toInt_lt] at h
  have e42 : (42 : Int32).toInt = 42 := by decide
  have e10 : (10 : Int32).toInt = 10 := by decide
  split
  · next c =>
    rw [Int32.le_iff_toInt_le] at c
    omega
  · omega
theorem growF_0 (f : Nat → Int32) (a d t : Int32) : growF f a d t 0 = f 0 ∧ growF f a d t 1 = f 1 ∧ growF f a d t 4 = gWet f a d ∧ growF f a d t 5 = ilst 100 (f 5 + paceF f) ∧ growF f a d t 6 = imst 10 (gHt f a t) ∧ growF f a d t 8 = f 8 := by
  refine ⟨?_, ?_, ?_, ?_, ?_, ?_⟩ <;> simp [growF, upd]
theorem LI_grow {f : Nat → Int32} {a d t : Int32} (h : LI f) (h0 : f 0 = 2 ∨ f 0 = 3) (ha : 0 ≤ a.toInt ∧ a.toInt ≤ 3) (hd : 0 ≤ d.toInt ∧ d.toInt ≤ 3) (hh : ¬ 42 < gHt f a t) : LI (growF f a d t) := by
  obtain ⟨a1, a2, a3, a4, a5, a6, a7⟩ := h
  obtain ⟨e0, e1, e4, e5, e6, e8⟩ := growF_0 f a d t
  unfold LI
  rw [e0, e1, e4, e5, e6, e8]
  refine ⟨a1, a2, gWet_ok a3 ha hd, fun c => ?_, ilst_le _ _, fun _ => imst_10 hh, a7⟩
  rcases c with c | c <;> rcases h0 with q | q <;> rw [q] at c <;> exact absurd c (by decide)
theorem LI_spoil {f : Nat → Int32} {a d t : Int32} (h : LI f) (ha : 0 ≤ a.toInt ∧ a.toInt ≤ 3) (hd : 0 ≤ d.toInt ∧ d.toInt ≤ 3) : LI (spF (growF f a d t)) := by
  obtain ⟨a1, a2, a3, a4, a5, a6, a7⟩ := h
  obtain ⟨e0, e1, e4, e5, e6, e8⟩ := growF_0 f a d t
  have s0 : spF (growF f a d t) 0 = 6 := by simp [spF, upd]
  have s1 : spF (growF f a d t) 1 = -1 := by simp [spF, upd]
  have s4 : spF (growF f a d t) 4 = gWet f a d := by rw [← e4]; simp [spF, upd]
  have s5 : spF (growF f a d t) 5 = ilst 100 (f 5 + paceF f) := by rw [← e5]; simp [spF, upd]
  have s8 : spF (growF f a d t) 8 = f 8 := by rw [← e8]; simp [spF, upd]
  unfold LI
  rw [s0, s1, s4, s5, s8]
  exact ⟨fun c => absurd c (by decide), fun _ => rfl, gWet_ok a3 ha hd, fun c => absurd c (by decide), ilst_le _ _, fun c => absurd c (by decide), a7⟩
theorem dry_tab : ∀ k, k < 49 → 3 ≤ k → ∀ x, x < 100 → 30 ≤ x → 3 ≤ (imst 3 (nI k - nI x / 20)).toInt ∧ (imst 3 (nI k - nI x / 20)).toInt ≤ 48 := by decide +kernel
theorem LI_dry {f : Nat → Int32} {x : Int32} (h : LI f) (h0 : f 0 = 4) (hx : 30 ≤ x.toInt ∧ x.toInt ≤ 99) : LI (dryF f x) := by
  obtain ⟨a1, a2, a3, a4, a5, a6, a7⟩ := h
  have e0 : dryF f x 0 = f 0 := by simp [dryF, upd]
  have e1 : dryF f x 1 = f 1 := by simp [dryF, upd]
  have e4 : dryF f x 4 = imst 3 (f 4 - x / 20) := by simp [dryF, upd]
  have e5 : dryF f x 5 = f 5 := by simp [dryF, upd]
  have e8 : dryF f x 8 = if x ≤ 80 then f 8 else if f 4 ≤ 20 then f 8 else 1 := by simp [dryF, upd]
  obtain ⟨k, hk, ek⟩ := to_nI (x := f 4) (n := 48) (by omega) (by omega)
  obtain ⟨x0, hx0, ex⟩ := to_nI (x := x) (n := 99) (by omega) (by omega)
  have hk2 : 3 ≤ k := by
    rw [ek, nI_toInt (by omega)] at a3
    omega
  have hx2 : 30 ≤ x0 := by
    rw [ex, nI_toInt (by omega)] at hx
    omega
  have w := dry_tab k (by omega) hk2 x0 (by omega) hx2
  rw [← ek, ← ex] at w
  unfold LI
  rw [e0, e1, e4, e5, e8, h0]
  refine ⟨fun c => absurd c (by decide), fun _ => a2 (by rw [h0]; decide), w, fun c => absurd c (by decide), a5, fun c => absurd c (by decide), ?_⟩
  split
  · exact a7
  · split
    · exact a7
    · exact Or.inr rfl
theorem zkh_ok {x : Int32} (h : IV z n T) : 30 ≤ (zkh z x).toInt ∧ (zkh z x).toInt ≤ 99 := by
  obtain ⟨-, -, -, -, -, ⟨b1, b2⟩, -⟩ := h
  unfold zkh
  split <;> omega
theorem zsetg_ok {w : Nat} (h : IV z n T) (hl : LI (ofz z j)) (hw : w < 3) : 0 ≤ (zsetg z j w).toInt ∧ (zsetg z j w).toInt ≤ 3 := by
  obtain ⟨-, -, -, -, -, -, b, -⟩ := h
  unfold zsetg
  by_cases c : ofz z j 0 = 2
  · obtain ⟨d, hd, e⟩ := hl.1 c
    rw [if_pos c, e, cd hd]
    exact b _ (by omega) (by omega)
  · rw [if_neg c]
    split <;> decide
end RL
