set_option maxRecDepth 100000
/-! PLAIN: what the model's methods do to its arrays -/
def cpS (σ : MS) (p1 a1 p3 a2 m : Nat) : MS := fun q => if q = p3 then (fun i => if a2 ≤ i ∧ i < a2 + m then σ p1 (a1 + (i - a2)) else σ p3 i) else σ q
theorem cpS_at {σ : MS} {p1 a1 p3 a2 m i : Nat} : cpS σ p1 a1 p3 a2 m p3 i = if a2 ≤ i ∧ i < a2 + m then σ p1 (a1 + (i - a2)) else σ p3 i := by
  unfold cpS
  rw [if_pos rfl]
theorem cpS_ne {σ : MS} {p1 a1 p3 a2 m q : Nat} (h : q ≠ p3) : cpS σ p1 a1 p3 a2 m q = σ q := if_neg h
theorem cpS_0 {σ : MS} {p1 a1 p3 a2 : Nat} : cpS σ p1 a1 p3 a2 0 = σ := by
  funext q i
  by_cases h : q = p3
  · subst h
    rw [cpS_at, if_neg (by omega)]
  · rw [cpS_ne h]
theorem cpS_step {σ : MS} {p1 a1 p3 a2 k : Nat} (hne : p1 ≠ p3) : mU (cpS σ p1 a1 p3 a2 k) p3 (a2 + k) (cpS σ p1 a1 p3 a2 k p1 (a1 + k)) = cpS σ p1 a1 p3 a2 (k + 1) := by
  rw [cpS_ne hne]
  funext q i
  show (if q = p3 then upd (cpS σ p1 a1 p3 a2 k p3) (a2 + k) (σ p1 (a1 + k)) else cpS σ p1 a1 p3 a2 k q) i = cpS σ p1 a1 p3 a2 (k + 1) q i
  by_cases hq : q = p3
  · subst hq
    rw [if_pos rfl]
    by_cases hi : i = a2 + k
    · subst hi
      rw [pk_us, cpS_at, if_pos (by omega), show a1 + (a2 + k - a2) = a1 + k by omega]
    · rw [pk_un hi, cpS_at, cpS_at]
      by_cases c : a2 ≤ i ∧ i < a2 + k
      · rw [if_pos c, if_pos (by omega)]
      · rw [if_neg c, if_neg (by omega)]
  · rw [if_neg hq, cpS_ne hq, cpS_ne hq]
theorem x6_copy_L {kx : Int32 → MS → Prop} {σ : MS} {p1 a1 p3 a2 : Nat} (hne : p1 ≠ p3) (h1 : a1 + 153 ≤ mLen p1) (h3 : a2 + 153 ≤ mLen p3) (h : kx (nI 153) (cpS σ p1 a1 p3 a2 153)) : ∀ m F k, k + m = 153 → m < F → wp_X6_copyState_L3 kx (nI a1) p1 (nI a2) p3 F (nI k) (cpS σ p1 a1 p3 a2 k) := by
  have q1 := mLen_le p1
  have q3 := mLen_le p3
  intro m
  induction m with
  | zero =>
    intro F k e hF
    obtain ⟨F, rfl⟩ := fpos hF
    obtain rfl : k = 153 := by omega
    rw [wp_X6_copyState_L3]
    exact ⟨fun _ => h, fun c => absurd (lp_out : (153 : Int32) ≤ nI 153) c⟩
  | succ m ih =>
    intro F k e hF
    obtain ⟨F, rfl⟩ := fpos hF
    rw [wp_X6_copyState_L3]
    refine ⟨fun c => lp_x 153 (by omega) (by decide) c, fun _ => ?_⟩
    have e1 := ih F (k + 1) (by omega) (by omega)
    rw [nI_add, nI_add, nI_clamp (show a1 + k < 2 ^ 31 by omega), nI_clamp (show a2 + k < 2 ^ 31 by omega)]
    refine ⟨vp_in_nI (by omega) (by omega), vp_in_nI (by omega) (by omega), fun σ7 e7 => ?_⟩
    rw [e7, cpS_step hne, ← nI_succ]
    exact e1
theorem x6_copyState {σ : MS} {p1 a1 p3 a2 : Nat} {Q : MS → Prop} (hne : p1 ≠ p3) (h1 : a1 + 153 ≤ mLen p1) (h3 : a2 + 153 ≤ mLen p3) (h : Q (cpS σ p1 a1 p3 a2 153)) : wp_X6_copyState p1 (nI a1) p3 (nI a2) σ Q := by
  have e := x6_copy_L (kx := fun _ s => Q s) hne h1 h3 h 153 mF 0 (by omega) (by unfold mF; omega)
  rw [cpS_0] at e
  exact e
/-! record -/
def shS (σ : MS) (k : Nat) : MS := fun q => if q = 2 then (fun i => if i < k then σ 2 (i + 153) else σ 2 i) else σ q
theorem shS_at {σ : MS} {k i : Nat} : shS σ k 2 i = if i < k then σ 2 (i + 153) else σ 2 i := rfl
theorem shS_ne {σ : MS} {k q : Nat} (h : q ≠ 2) : shS σ k q = σ q := if_neg h
theorem shS_0 {σ : MS} : shS σ 0 = σ := by
  funext q i
  by_cases h : q = 2
  · subst h
    rw [shS_at, if_neg (by omega)]
  · rw [shS_ne h]
theorem shS_step {σ : MS} {k : Nat} : mU (shS σ k) 2 k (shS σ k 2 (k + 153)) = shS σ (k + 1) := by
  rw [shS_at, if_neg (by omega)]
  funext q i
  show (if q = 2 then upd (shS σ k 2) k (σ 2 (k + 153)) else shS σ k q) i = shS σ (k + 1) q i
  by_cases hq : q = 2
  · subst hq
    rw [if_pos rfl]
    by_cases hi : i = k
    · subst hi
      rw [pk_us, shS_at, if_pos (by omega)]
    · rw [pk_un hi, shS_at, shS_at]
      by_cases c : i < k
      · rw [if_pos c, if_pos (by omega)]
      · rw [if_neg c, if_neg (by omega)]
  · rw [if_neg hq, shS_ne hq, shS_ne hq]
theorem x6_record_L {kx : Int32 → MS → Prop} {σ : MS} (h : kx (nI 612) (shS σ 612)) : ∀ m F k, k + m = 612 → m < F → wp_X6_record_L10 kx F (nI k) (shS σ k) := by
  intro m
  induction m with
  | zero =>
    intro F k e hF
    obtain ⟨F, rfl⟩ := fpos hF
    obtain rfl : k = 612 := by omega
    rw [wp_X6_record_L10]
    exact ⟨fun _ => h, fun c => absurd (lp_out : (612 : Int32) ≤ nI 612) c⟩
  | succ m ih =>
    intro F k e hF
    obtain ⟨F, rfl⟩ := fpos hF
    rw [wp_X6_record_L10]
    refine ⟨fun c => lp_x 612 (by omega) (by decide) c, fun _ => ?_⟩
    have e1 := ih F (k + 1) (by omega) (by omega)
    have e2 : nI k + 153 = nI (k + 153) := nI_add k 153
    rw [e2, nI_clamp (show k + 153 < 2 ^ 31 by omega), nI_clamp (show k < 2 ^ 31 by omega)]
    refine ⟨vp_in_nI (N := 765) (by omega) (by omega), vp_in_nI (N := 765) (by omega) (by omega), fun σ7 e7 => ?_⟩
    rw [e7, shS_step, ← nI_succ]
    exact e1
def recS (σ : MS) (s : Nat) : MS := if s = 5 then mU (cpS (mU (shS σ 612) 5 0 (nI 4)) 0 0 2 612 153) 5 0 (nI 5) else mU (cpS σ 0 0 2 (153 * s) 153) 5 0 (nI (s + 1))
theorem x6_record {σ : MS} {s : Nat} {Q : MS → Prop} (hs : σ 5 0 = nI s) (h5 : s ≤ 5) (h : Q (recS σ s)) : wp_X6_record σ Q := by
  unfold wp_X6_record
  unfold recS at h
  refine jnI ⟨fun c => ?_, fun c => ?_⟩
  · have hs5 : ¬ s = 5 := fun z => c (by rw [hs, z]; rfl)
    rw [if_neg hs5] at h
    show wp_X6_copyState 0 0 2 (153 * (σ 5 0)) σ _
    rw [hs, m153]
    refine x6_copyState (a1 := 0) (a2 := 153 * s) (by decide) (by decide) (by show 153 * s + 153 ≤ 765; omega) (fun σ5 e5 => ?_)
    have e6 : cpS σ 0 0 2 (153 * s) 153 5 0 = nI s := hs
    rw [e6, ← nI_succ] at e5
    rw [e5]
    exact h
  · have hs5 : s = 5 := by
      rw [hs] at c
      exact (nI_eq (by omega) (by omega)).1 (c : nI s = nI 5)
    rw [if_pos hs5] at h
    refine jnI ?_
    have e1 := x6_record_L (kx := fun (_ : Int32) (σ10 : MS) => ∀ σ11 : MS, σ11 = mU σ10 5 0 ((σ10 5 0) - 1) → wp_X6_copyState 0 0 2 (153 * (σ11 5 0)) σ11 (fun σ4 => (∀ σ5 : MS, σ5 = mU σ4 5 0 ((σ4 5 0) + 1) → (Q σ5)))) (σ := σ) ?_ 612 mF 0 (by omega) (by unfold mF; omega)
    · rw [shS_0] at e1
      exact e1
    · intro σ11 e11
      have e6 : (shS σ 612 5 0) - 1 = nI 4 := by
        show σ 5 0 - 1 = nI 4
        rw [hs, hs5]
        decide
      rw [e6] at e11
      subst e11
      have e7 : (mU (shS σ 612) 5 0 (nI 4)) 5 0 = nI 4 := rfl
      rw [e7, m153]
      refine x6_copyState (a1 := 0) (a2 := 612) (by decide) (by decide) (by decide) (fun σ5 e5 => ?_)
      have e8 : cpS (mU (shS σ 612) 5 0 (nI 4)) 0 0 2 612 153 5 0 + 1 = nI 5 := by
        show (nI 4 : Int32) + 1 = nI 5
        decide
      rw [e8] at e5
      rw [e5]
      exact h
theorem recS_0 {σ : MS} {s : Nat} : recS σ s 0 = σ 0 := by
  unfold recS
  split <;> rfl
theorem recS_3 {σ : MS} {s : Nat} : recS σ s 3 = σ 3 := by
  unfold recS
  split <;> rfl
theorem recS_4 {σ : MS} {s : Nat} : recS σ s 4 = σ 4 := by
  unfold recS
  split <;> rfl
theorem recS_50 {σ : MS} {s : Nat} : recS σ s 5 0 = nI (if s = 5 then 5 else s + 1) := by
  unfold recS
  split <;> rfl
theorem recS_5n {σ : MS} {s i : Nat} (h : i ≠ 0) : recS σ s 5 i = σ 5 i := by
  unfold recS
  split
  · show upd (upd (σ 5) 0 (nI 4)) 0 (nI 5) i = σ 5 i
    rw [pk_un h, pk_un h]
  · show upd (σ 5) 0 (nI (s + 1)) i = σ 5 i
    rw [pk_un h]
theorem recS_2 {σ : MS} {s k i : Nat} (hs : s ≤ 5) (hk : k < 5) (hi : i < 153) : recS σ s 2 (153 * k + i) = if s = 5 then (if k = 4 then σ 0 i else σ 2 (153 * (k + 1) + i)) else if k = s then σ 0 i else σ 2 (153 * k + i) := by
  unfold recS
  by_cases h5 : s = 5
  · rw [if_pos h5, if_pos h5]
    show cpS (mU (shS σ 612) 5 0 (nI 4)) 0 0 2 612 153 2 (153 * k + i) = _
    rw [cpS_at]
    by_cases hk4 : k = 4
    · subst hk4
      rw [if_pos (by omega), if_pos rfl, show 0 + (153 * 4 + i - 612) = i by omega]
      rfl
    · rw [if_neg (by omega), if_neg hk4]
      show shS σ 612 2 (153 * k + i) = _
      rw [shS_at, if_pos (by omega), show 153 * k + i + 153 = 153 * (k + 1) + i by omega]
  · rw [if_neg h5, if_neg h5]
    show cpS σ 0 0 2 (153 * s) 153 2 (153 * k + i) = _
    rw [cpS_at]
    by_cases hks : k = s
    · subst hks
      rw [if_pos (by omega), if_pos rfl, show 0 + (153 * k + i - 153 * k) = i by omega]
    · rw [if_neg hks]
      by_cases hlt : k < s
      · rw [if_neg (by omega)]
      · rw [if_neg (by omega)]
/-! the book -/
def zSh (z : Zz) (k : Nat) : Zz := fun i => if 20 + k < i ∧ i ≤ 31 then z (i - 1) else z i
theorem zSh_11 {z : Zz} : zSh z 11 = z := by
  funext i
  unfold zSh
  rw [if_neg (by omega)]
theorem zSh_step {z : Zz} {k : Nat} (hk : k < 11) : upd (zSh z (k + 1)) (20 + k + 1) (zSh z (k + 1) (20 + k)) = zSh z k := by
  funext i
  by_cases h : i = 20 + k + 1
  · subst h
    rw [pk_us]
    unfold zSh
    rw [if_neg (by omega), if_pos (by omega)]
    rfl
  · rw [pk_un h]
    unfold zSh
    by_cases c : 20 + (k + 1) < i ∧ i ≤ 31
    · rw [if_pos c, if_pos (by omega)]
    · rw [if_neg c, if_neg (by omega)]
def zBooks (z : Zz) (p l : Int32) : Zz := upd (upd (zSh z 0) 20 (100 * z 0 + 12 * p + l)) 14 (ilst (z 14 + 1) 12)
theorem x6_books_L {kx : Int32 → MS → Prop} {σ : MS} {z : Zz} (h : kx (nI 0) (mZ σ (zSh z 0))) : ∀ k F, k ≤ 11 → k < F → wp_X6_books_L3 kx F (nI k) (mZ σ (zSh z k)) := by
  intro k
  induction k with
  | zero =>
    intro F _ hF
    obtain ⟨F, rfl⟩ := fpos hF
    rw [wp_X6_books_L3]
    exact ⟨fun _ => h, fun c => absurd (lp_out : nI 0 ≤ (0 : Int32)) c⟩
  | succ k ih =>
    intro F hk hF
    obtain ⟨F, rfl⟩ := fpos hF
    rw [wp_X6_books_L3]
    have e1 : (20 : Int32) + nI (k + 1) = nI (20 + k + 1) := nI_add 20 (k + 1)
    rw [e1, nI_pred, nI_clamp (show 20 + k + 1 < 2 ^ 31 by omega), nI_clamp (show 20 + k < 2 ^ 31 by omega), nI_m1]
    refine ⟨fun c => absurd c (nI_nle (by omega) (by omega)), fun _ => ⟨vz (by omega), vz (by omega), fun σ7 e7 => ?_⟩⟩
    rw [mZ_0, mU_mZ2, zSh_step (by omega)] at e7
    rw [e7]
    exact ih F (by omega) (by omega)
theorem x6_books {p l : Int32} {σ : MS} {Q : MS → Prop} (h : Q (mZ σ (zBooks (σ 0) p l))) : wp_X6_books p l σ Q := by
  unfold wp_X6_books
  have e := x6_books_L (kx := fun (_ : Int32) (σ5 : MS) => (vp_in 0 (mLen 0) ∧ (vp_in 20 (mLen 0) ∧ ∀ σ6 : MS, σ6 = mU σ5 0 (20 : Int32).toNatClampNeg (((100 * (σ5 0 (0 : Int32).toNatClampNeg)) + (12 * p)) + l) → (vp_in 14 (mLen 0) ∧ (wp_X6_least ((σ6 0 (14 : Int32).toNatClampNeg) + 1) 12 (fun v7 => (vp_in 14 (mLen 0) ∧ ∀ σ8 : MS, σ8 = mU σ6 0 (14 : Int32).toNatClampNeg v7 → (Q σ8)))))))) (σ := σ) (z := σ 0) ?_ 11 mF (by omega) (by unfold mF; omega)
  · rw [zSh_11, mZ_self] at e
    exact e
  · rw [zc0, zc20, zc14]
    refine ⟨zv0, zv20, fun σ6 e6 => ?_⟩
    rw [mZ_0, mU_mZ2] at e6
    subst e6
    refine ⟨zv14, x6_least ⟨zv14, fun σ8 e8 => ?_⟩⟩
    rw [mZ_0, mU_mZ2, pk_un (show 14 ≠ 20 by decide)] at e8
    rw [e8]
    exact h
theorem mZ_books {σ : MS} {z : Zz} {p l : Int32} {Q : MS → Prop} (h : Q (mZ σ (zBooks z p l))) : wp_X6_books p l (mZ σ z) Q := by
  refine x6_books ?_
  rw [mZ_0, mZ_mZ]
  exact h
theorem zBooks_n {z : Zz} {p l : Int32} {i : Nat} (h : i ≠ 14) (h2 : i < 20 ∨ 32 ≤ i) : zBooks z p l i = z i := by
  unfold zBooks
  rw [pk_un h, pk_un (by omega)]
  unfold zSh
  rw [if_neg (by omega)]
theorem zBooks_14 {z : Zz} {p l : Int32} : zBooks z p l 14 = ilst (z 14 + 1) 12 := by
  unfold zBooks
  rw [pk_us]
theorem zBooks_20 {z : Zz} {p l : Int32} : zBooks z p l 20 = 100 * z 0 + 12 * p + l := by
  unfold zBooks
  rw [pk_un (by decide), pk_us]
theorem zBooks_e {z : Zz} {p l : Int32} {k : Nat} (h : k < 11) : zBooks z p l (20 + (k + 1)) = z (20 + k) := by
  unfold zBooks
  rw [pk_un (by omega), pk_un (by omega)]
  unfold zSh
  rw [if_pos (by omega)]
  rfl
theorem ofz_books {z : Zz} {p l : Int32} {k w : Nat} : ofz (zBooks z p l) k w = ofz z k w := zBooks_n (by omega) (by omega)
theorem ofz_booksF {z : Zz} {p l : Int32} {k : Nat} : ofz (zBooks z p l) k = ofz z k := funext fun _ => ofz_books
/-! changes -/
def zBring (z : Zz) (j : Nat) (p d : Int32) : Zz := zBooks (zLot z j (upd (upd (ofz z j) 0 p) 1 d)) p (nI j)
theorem x6_brings {j : Nat} {p d : Int32} {σ : MS} {Q : MS → Prop} (hj : j < 12) (h : Q (mZ σ (zBring (σ 0) j p d))) : wp_X6_brings (nI j) p d σ Q := by
  unfold wp_X6_brings
  exact x6_sets1 (w := 0) hj (by decide) (x6_sets2 (w := 1) hj (by decide) (mZ_books h))
def zSteep (z : Zz) (j : Nat) : Zz := upd (zBring z j 1 (-1)) 8 (z 8 + ofz z j 2)
theorem ofz_bring {z : Zz} {j k w : Nat} {p d : Int32} (hw : w < 9) : ofz (zBring z j p d) k w = if k = j then upd (upd (ofz z j) 0 p) 1 d w else ofz z k w := by
  unfold zBring
  rw [ofz_books, ofz_lot hw]
theorem zBring_sc {z : Zz} {j i : Nat} {p d : Int32} (h : i ≠ 14) (h2 : i < 20 ∨ (32 ≤ i ∧ i < 44)) : zBring z j p d i = z i := by
  unfold zBring
  rw [zBooks_n h (by omega), zLot_sc (by omega)]
theorem x6_steeps {j : Nat} {σ : MS} {Q : MS → Prop} (hj : j < 12) (h : Q (mZ σ (zSteep (σ 0) j))) : wp_X6_steeps (nI j) σ Q := by
  unfold wp_X6_steeps
  rw [zc8]
  refine x6_brings hj ⟨zv8, x6_of1 (w := 2) hj (by decide) ⟨zv8, fun σ4 e4 => ?_⟩⟩
  rw [mZ_0, mU_mZ2, ofz_bring (by decide), if_pos rfl, zBring_sc (by decide) (by decide)] at e4
  rw [e4]
  exact h
def newF (f : Nat → Int32) (x : Int32) : Nat → Int32 := upd (upd (upd (upd (fun w => if w < 9 then 0 else f w) 1 (-1)) 2 x) 4 12) 6 15
def zAdd (z : Zz) (n : Nat) (x : Int32) : Zz := zLot (upd z 7 (z 7 + 1)) n (newF (ofz z n) x)
theorem x6_adds_L {kx : Int32 → MS → Prop} {σ : MS} {z : Zz} {n : Nat} (hn : n < 12) (h : kx (nI 9) (mZ σ (zLot z n (fun w => if w < 9 then 0 else ofz z n w)))) : ∀ m F k, k + m = 9 → m < F → wp_X6_adds_L10 kx (nI n) F (nI k) (mZ σ (zLot z n (fun w => if w < k then 0 else ofz z n w))) := by
  intro m
  induction m with
  | zero =>
    intro F k e hF
    obtain ⟨F, rfl⟩ := fpos hF
    obtain rfl : k = 9 := by omega
    rw [wp_X6_adds_L10]
    exact ⟨fun _ => h, fun c => absurd (lp_out : (9 : Int32) ≤ nI 9) c⟩
  | succ m ih =>
    intro F k e hF
    obtain ⟨F, rfl⟩ := fpos hF
    rw [wp_X6_adds_L10]
    refine ⟨fun c => lp_x 9 (by omega) (by decide) c, fun _ => x6_sets2 hn (by omega) ?_⟩
    have e1 := ih F (k + 1) (by omega) (by omega)
    have e2 : upd (fun w => if w < k then 0 else ofz z n w) k 0 = fun w => if w < k + 1 then 0 else ofz z n w := by
      funext w
      by_cases hw : w = k
      · subst hw
        rw [pk_us, if_pos (by omega)]
      · rw [pk_un hw]
        by_cases c : w < k
        · rw [if_pos c, if_pos (by omega)]
        · rw [if_neg c, if_neg (by omega)]
    rw [e2, ← nI_succ]
    exact e1
theorem x6_adds {x : Int32} {n : Nat} {σ : MS} {Q : MS → Prop} (hn : σ 0 7 = nI n) (h12 : n < 12) (h : Q (mZ σ (zAdd (σ 0) n x))) : wp_X6_adds x σ Q := by
  unfold wp_X6_adds
  rw [zc7]
  refine ⟨zv7, fun x1 e1 => ?_⟩
  rw [hn] at e1
  subst e1
  have e := x6_adds_L (kx := fun (_ : Int32) (σ6 : MS) => (wp_X6_sets (nI n) 1 ((-1)) σ6 (fun σ7 => (wp_X6_sets (nI n) 2 x σ7 (fun σ8 => (wp_X6_sets (nI n) 4 12 σ8 (fun σ9 => (wp_X6_sets (nI n) 6 15 σ9 (fun σ10 => (vp_in 7 (mLen 0) ∧ (vp_in 7 (mLen 0) ∧ ∀ σ11 : MS, σ11 = mU σ10 0 7 ((σ10 0 7) + 1) → (Q σ11)))))))))))) (σ := σ) (z := σ 0) (n := n) h12 ?_ 9 mF 0 (by omega) (by unfold mF; omega)
  · have e2 : (fun w => if w < 0 then 0 else ofz (σ 0) n w) = ofz (σ 0) n := by
      funext w
      rw [if_neg (by omega)]
    rw [e2, zLot_self, mZ_self] at e
    exact e
  · refine x6_sets2 (w := 1) h12 (by decide) (x6_sets2 (w := 2) h12 (by decide) (x6_sets2 (w := 4) h12 (by decide) (x6_sets2 (w := 6) h12 (by decide) ⟨zv7, zv7, fun σ11 e11 => ?_⟩)))
    rw [mZ_0, mU_mZ2, zLot_sc (by decide), upd_lot_sc (by decide)] at e11
    rw [e11]
    exact h
def wetF (f : Nat → Int32) : Nat → Int32 := upd (upd f 4 (if f 4 ≤ 48 then ilst 48 (f 4 + 3) else f 4)) 6 (if 10 ≤ f 6 then imst 10 (f 6 - 2) else f 6)
def zWets (z : Zz) (j : Nat) : Zz := zBooks (zLot (upd (upd z 6 (z 6 - 1)) 13 (z 13 + 1)) j (wetF (ofz z j))) 5 (nI j)
theorem x6_wets {j : Nat} {σ : MS} {Q : MS → Prop} (hj : j < 12) (h : Q (mZ σ (zWets (σ 0) j))) : wp_X6_wets (nI j) σ Q := by
  unfold wp_X6_wets
  unfold zWets wetF at h
  rw [zc6, zc13]
  have fin : ∀ f, (Q (mZ σ (zBooks (zLot (upd (upd (σ 0) 6 (σ 0 6 - 1)) 13 (σ 0 13 + 1)) j f) 5 (nI j)))) → (vp_in 6 (mLen 0) ∧ (vp_in 6 (mLen 0) ∧ ∀ σ13 : MS, σ13 = mU (mZ σ (zLot (σ 0) j f)) 0 6 (((mZ σ (zLot (σ 0) j f)) 0 6) - 1) → (vp_in 13 (mLen 0) ∧ (vp_in 13 (mLen 0) ∧ ∀ σ14 : MS, σ14 = mU σ13 0 13 ((σ13 0 13) + 1) → (wp_X6_books 5 (nI j) σ14 (fun σ15 => (Q σ15))))))) := by
    intro f hq
    refine ⟨zv6, zv6, fun σ13 e13 => ⟨zv13, zv13, fun σ14 e14 => ?_⟩⟩
    rw [mZ_0, mU_mZ2, zLot_sc (by decide), upd_lot_sc (by decide)] at e13
    subst e13
    rw [mZ_0, mU_mZ2, zLot_sc (by decide), upd_lot_sc (by decide), pk_un (by decide)] at e14
    subst e14
    exact mZ_books hq
  refine x6_of1 (w := 4) hj (by decide) (x6_of1 (w := 6) hj (by decide) (jnI ⟨fun a1 => x6_least ?_, fun a1 => ?_⟩))
  · rw [if_pos a1] at h
    refine x6_sets1 (w := 4) hj (by decide) (jnI ⟨fun a2 => x6_most ?_, fun a2 => ?_⟩)
    · rw [if_pos a2] at h
      exact x6_sets2 (w := 6) hj (by decide) (fin _ h)
    · rw [if_neg a2] at h
      exact x6_sets2 (w := 6) hj (by decide) (fin _ h)
  · rw [if_neg a1] at h
    refine x6_sets1 (w := 4) hj (by decide) (jnI ⟨fun a2 => x6_most ?_, fun a2 => ?_⟩)
    · rw [if_pos a2] at h
      exact x6_sets2 (w := 6) hj (by decide) (fin _ h)
    · rw [if_neg a2] at h
      exact x6_sets2 (w := 6) hj (by decide) (fin _ h)
