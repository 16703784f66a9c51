set_option maxRecDepth 100000
/-! PLAIN: places in the model's array -/
theorem nI_mul9 (j w : Nat) (hj : j < 12) (hw : w < 9) : ((44 + (9 * nI j)) + nI w) = nI (44 + 9 * j + w) := by
  have h1 : (9 : Int32) * nI j = nI (9 * j) := by
    show nI 9 * nI j = nI (9 * j)
    unfold nI
    rw [← Int32.ofNat_mul]
  rw [h1]
  show (nI 44 + nI (9 * j)) + nI w = _
  unfold nI
  rw [← Int32.ofNat_add, ← Int32.ofNat_add]
theorem vp_inI {k n : Nat} (hk : k < n) (hn : n < 2 ^ 31) : vp_in (nI k) n := vp_in_nI hk (by omega)
theorem zi (j w : Nat) (hj : j < 12) (hw : w < 9) : vp_in ((44 + (9 * nI j)) + nI w) 153 ∧ ((44 + (9 * nI j)) + nI w).toNatClampNeg = 44 + 9 * j + w := by
  rw [nI_mul9 j w hj hw]
  exact ⟨vp_inI (by omega) (by decide), nI_clamp (by omega)⟩
theorem x6_of {j w : Nat} {σ : MS} {Q : Int32 → MS → Prop} (hj : j < 12) (hw : w < 9) (h : Q (σ 0 (44 + 9 * j + w)) σ) : wp_X6_of (nI j) (nI w) σ Q := by
  unfold wp_X6_of
  obtain ⟨h1, h2⟩ := zi j w hj hw
  rw [h2]
  exact ⟨h1, h⟩
theorem x6_sets {j w : Nat} {x : Int32} {σ : MS} {Q : MS → Prop} (hj : j < 12) (hw : w < 9) (h : Q (mU σ 0 (44 + 9 * j + w) x)) : wp_X6_sets (nI j) (nI w) x σ Q := by
  unfold wp_X6_sets
  obtain ⟨h1, h2⟩ := zi j w hj hw
  rw [h2]
  exact ⟨h1, fun σ1 e => by rw [e]; exact h⟩
