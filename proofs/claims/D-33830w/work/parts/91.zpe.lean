set_option maxRecDepth 100000
/-! PLAIN: what an hour of the model does to places -/
def PE (f g : Nat → Int32) : Prop := ((g 0 = f 0 ∧ g 1 = f 1) ∨ ((f 0 = 2 ∨ f 0 = 3) ∧ g 0 = 6) ∨ (f 0 = 4 ∧ g 0 = 5)) ∧ (¬ (f 0 = 2 ∨ f 0 = 3) → g 5 = f 5)
section PP
variable {f g h : Nat → Int32} {z : Zz} {n j k : Nat}
theorem PE.refl (h0 : g 0 = f 0) (h1 : g 1 = f 1) (h5 : g 5 = f 5) : PE f g := ⟨Or.inl ⟨h0, h1⟩, fun _ => h5⟩
theorem PE.trans (a : PE f g) (b : PE g h) : PE f h := by
  obtain ⟨a1, a2⟩ := a
  obtain ⟨b1, b2⟩ := b
  rcases a1 with ⟨p, q⟩ | ⟨p, q⟩ | ⟨p, q⟩
  · rw [p] at b1 b2
    refine ⟨?_, fun c => (b2 c).trans (a2 c)⟩
    rcases b1 with ⟨r, s⟩ | r | r
    · exact Or.inl ⟨r, s.trans q⟩
    · exact Or.inr (Or.inl r)
    · exact Or.inr (Or.inr r)
  · refine ⟨Or.inr (Or.inl ⟨p, ?_⟩), fun c => absurd p c⟩
    rw [q] at b1
    rcases b1 with ⟨r, -⟩ | ⟨r, -⟩ | ⟨r, -⟩
    · exact r
    · rcases r with r | r <;> exact absurd r (by decide)
    · exact absurd r (by decide)
  · rw [q] at b1 b2
    refine ⟨Or.inr (Or.inr ⟨p, ?_⟩), fun c => (b2 (by decide)).trans (a2 c)⟩
    rcases b1 with ⟨r, -⟩ | ⟨r, -⟩ | ⟨r, -⟩
    · exact r
    · rcases r with r | r <;> exact absurd r (by decide)
    · exact absurd r (by decide)
theorem PE.lot {z' : Zz} {e : Nat → Int32} (hz : ∀ w, w < 9 → ofz z' j w = e w) (h : PE f e) : PE f (ofz z' j) := by
  unfold PE at h ⊢
  rw [hz 0 (by decide), hz 1 (by decide), hz 5 (by decide)]
  exact h
theorem zHL_pe : PE (ofz z j) (ofz (zHL z k).2 j) := by
  by_cases e : j = k
  · subst e
    unfold zHL
    by_cases c1 : ofz z j 0 = 1
    · rw [if_pos c1]
      refine PE.lot (e := steF (ofz z j)) (fun w hw => ofz_same hw) (PE.refl ?_ ?_ ?_) <;> simp [steF, upd]
    · rw [if_neg c1]
      by_cases c2 : ofz z j 0 = 2 ∨ ofz z j 0 = 3
      · rw [if_pos c2]
        unfold zGrow zGr
        obtain ⟨e0, e1, -⟩ := growF_0 (ofz z j) (zsetg z j 0) (zsetg z j 1) (zsetg z j 2)
        split
        · refine PE.lot (e := spF (growF (ofz z j) (zsetg z j 0) (zsetg z j 1) (zsetg z j 2))) (fun w hw => ?_) ⟨Or.inr (Or.inl ⟨c2, ?_⟩), fun c => absurd c2 c⟩
          · show ofz (zG1 z j _ _ _) j w = _
            unfold zG1
            rw [ofz_books, ofz_same hw]
          · simp [spF, upd]
        · refine PE.lot (e := growF (ofz z j) (zsetg z j 0) (zsetg z j 1) (zsetg z j 2)) (fun w hw => ?_) ⟨Or.inl ⟨e0, e1⟩, fun c => absurd c2 c⟩
          show ofz (zG0 z j _ _ _) j w = _
          unfold zG0
          rw [ofz_same hw]
      · rw [if_neg c2]
        split
        · refine PE.lot (e := dryF (ofz z j) (zkh z (z 2 + 1))) (fun w hw => ofz_same hw) (PE.refl ?_ ?_ ?_) <;> simp [dryF, upd]
        · exact PE.refl rfl rfl rfl
  · exact PE.lot (fun w hw => zHL_ne e hw) (PE.refl rfl rfl rfl)
theorem zHLs_pe : ∀ m, PE (ofz z j) (ofz (zHLs z m).2 j)
  | 0 => PE.refl rfl rfl rfl
  | m + 1 => (zHLs_pe m).trans zHL_pe
theorem zM1_pe : PE (ofz z j) (ofz (zM1 z k) j) := by
  unfold zM1
  by_cases c : ofz z k 0 = 4
  · rw [if_pos c]
    unfold zMalt
    by_cases e : j = k
    · subst e
      refine PE.lot (e := upd (ofz z j) 0 5) (fun w hw => by rw [ofz_books, ofz_same hw]) ⟨Or.inr (Or.inr ⟨c, pk_us⟩), fun _ => pk_un (by decide)⟩
    · refine PE.lot (e := ofz z j) (fun w hw => by rw [ofz_books, ofz_ne e hw, ofz_sc (by decide), ofz_sc (by decide)]) (PE.refl rfl rfl rfl)
  · rw [if_neg c]
    exact PE.refl rfl rfl rfl
theorem zMs_pe : ∀ m, PE (ofz z j) (ofz (zMs z m) j)
  | 0 => PE.refl rfl rfl rfl
  | m + 1 => (zMs_pe m).trans zM1_pe
theorem zHour_pe : PE (ofz z j) (ofz (zHour z n).2 j) := by
  have a : PE (ofz z j) (ofz (zHLs (zT z) n).2 j) := PE.trans (PE.lot (e := ofz z j) (fun w _ => ofz_T) (PE.refl rfl rfl rfl)) (zHLs_pe n)
  unfold zHour
  split
  · refine a.trans ?_
    unfold zEnd zMm
    have b : ∀ x i, i < 44 → PE (ofz x j) (ofz (upd x i (x i)) j) := fun x i hi => PE.lot (e := ofz x j) (fun w _ => ofz_sc hi) (PE.refl rfl rfl rfl)
    have c : ∀ (x : Zz) (v : Int32) i, i < 44 → PE (ofz x j) (ofz (upd x i v) j) := fun x v i hi => PE.lot (e := ofz x j) (fun w _ => ofz_sc hi) (PE.refl rfl rfl rfl)
    refine PE.trans (c (zHLs (zT z) n).2 (z 2 + 1) 2 (by decide)) ?_
    generalize upd (zHLs (zT z) n).2 2 (z 2 + 1) = x
    split
    · exact (c _ _ 1 (by decide)).trans (c _ _ 2 (by decide))
    · exact (zMs_pe n).trans ((c _ _ 1 (by decide)).trans (c _ _ 2 (by decide)))
  · exact a
theorem zHour_7 : (zHour z n).2 7 = z 7 := by
  have a : (zHLs (zT z) n).2 7 = z 7 := (zHLs_sc (by decide) (by decide) (by decide) (by decide) n).trans (zT_sc (by decide) (by decide))
  unfold zHour
  split
  · unfold zEnd zMm
    dsimp only
    rw [pk_un (by decide), pk_un (by decide)]
    split
    · rw [pk_un (by decide)]; exact a
    · rw [zMs_sc (by decide) (by decide) (by decide) (by decide), pk_un (by decide)]; exact a
  · exact a
theorem zHours_pe : ∀ m, PE (ofz z j) (ofz (zHours z n m).2 j)
  | 0 => PE.refl rfl rfl rfl
  | m + 1 => (zHours_pe m).trans zHour_pe
theorem zHours_7 : ∀ m, (zHours z n m).2 7 = z 7
  | 0 => rfl
  | m + 1 => zHour_7.trans (zHours_7 m)
theorem PE.two (h : PE f g) (c : g 0 = 2) : f 0 = 2 ∧ g 1 = f 1 := by
  rcases h.1 with ⟨a, b⟩ | ⟨-, a⟩ | ⟨-, a⟩
  · exact ⟨a.symm.trans c, b⟩
  · rw [a] at c; exact absurd c (by decide)
  · rw [a] at c; exact absurd c (by decide)
theorem zOK.hours (h : zOK z n) (m : Nat) : zOK (zHours z n m).2 n := by
  refine ⟨(zHours_7 m).trans h.1, h.2.1, fun j hj c => ?_⟩
  obtain ⟨a, b⟩ := (zHours_pe (z := z) (n := n) (j := j) m).two c
  rw [b]
  exact h.2.2 j hj a
end PP
