set_option maxRecDepth 100000
/-! PLAIN: the model's small methods -/
theorem x6_in {a b c : Int32} {Q : Int32 → Prop} (h : Q (if a < b then 0 else if c < a then 0 else 1)) : wp_X6_in a b c Q := by
  unfold wp_X6_in
  refine ⟨fun c1 => ?_, fun c1 => ⟨fun c2 => ?_, fun c2 => ?_⟩⟩
  · rw [if_pos c1] at h; exact h
  · rw [if_neg c1, if_pos c2] at h; exact h
  · rw [if_neg c1, if_neg c2] at h; exact h
theorem x6_goes {a b : Int32} {σ : MS} {Q : Int32 → MS → Prop} (h : Q (if a = 0 then 0 else if b = 0 then 0 else 1) (mU σ 5 3 (if a = 0 then 1 else if b = 0 then 2 else 0))) : wp_X6_goes a b σ Q := by
  unfold wp_X6_goes jn
  have e : ∀ x : Int32, (mU σ 5 3 x) 5 3 = x := fun x => by simp [mU, upd]
  refine ⟨fun c1 => ⟨fun c2 σ4 e4 => ?_, fun c2 σ4 e4 => ?_⟩, fun c1 σ4 e4 => ?_⟩
  · rw [if_neg c1, if_neg c2, if_neg c1, if_neg c2] at h
    subst e4
    exact ⟨fun z => absurd (e 0) z, fun _ => h⟩
  · rw [if_neg c1, if_pos c2, if_neg c1, if_pos c2] at h
    subst e4
    exact ⟨fun _ => h, fun z => absurd (z.symm.trans (e 2)) (by decide)⟩
  · rw [if_pos c1, if_pos c1] at h
    subst e4
    exact ⟨fun _ => h, fun z => absurd (z.symm.trans (e 1)) (by decide)⟩
/-- a loop over the lots that only counts -/
def zN (σ : MS) : Nat := (σ 0 7).toNatClampNeg
def cntP (σ : MS) (p : Int32) : Nat → Int32 → Int32
  | 0, a => a
  | n + 1, a => cntP σ p n a + (if σ 0 (44 + 9 * n) = p then 1 else 0)
theorem x6_isGrowing {j : Nat} {σ : MS} {Q : Int32 → MS → Prop} (hj : j < 12) (h : Q (if σ 0 (44 + 9 * j) = 2 then 1 else if σ 0 (44 + 9 * j) = 3 then 1 else 0) σ) : wp_X6_isGrowing (nI j) σ Q := by
  unfold wp_X6_isGrowing
  refine x6_of (w := 0) hj (by decide) ⟨fun c1 => ?_, fun c1 => x6_of (w := 0) hj (by decide) ⟨fun c2 => ?_, fun c2 => ?_⟩⟩
  · rw [Nat.add_zero] at c1; rw [if_pos c1] at h; exact h
  · rw [Nat.add_zero] at c1 c2; rw [if_neg c1, if_neg c2] at h; exact h
  · rw [Nat.add_zero] at c1 c2; rw [if_neg c1, if_pos c2] at h; exact h
