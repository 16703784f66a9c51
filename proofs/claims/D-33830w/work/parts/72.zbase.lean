set_option maxRecDepth 100000
/-! PLAIN: the model's array in plain words: the lots, the settings, the book -/
abbrev Zz : Type := Nat → Int32
def ofz (z : Zz) (j w : Nat) : Int32 := z (44 + 9 * j + w)
def mZ (σ : MS) (z : Zz) : MS := fun q => if q = 0 then z else σ q
theorem mZ_0 {σ : MS} {z : Zz} : mZ σ z 0 = z := if_pos rfl
theorem mZ_n {σ : MS} {z : Zz} {q : Nat} (h : q ≠ 0) : mZ σ z q = σ q := if_neg h
theorem mZ_5 {σ : MS} {z : Zz} : mZ σ z 5 = σ 5 := rfl
theorem mZ_mZ {σ : MS} {z z' : Zz} : mZ (mZ σ z) z' = mZ σ z' := by
  funext q
  unfold mZ
  split <;> rfl
theorem mZ_self {σ : MS} : mZ σ (σ 0) = σ := by
  funext q
  unfold mZ
  split
  · next h => rw [h]
  · rfl
theorem mU_mZ {σ : MS} {i : Nat} {x : Int32} : mU σ 0 i x = mZ σ (upd (σ 0) i x) := rfl
theorem mU_mZ2 {σ : MS} {z : Zz} {i : Nat} {x : Int32} : mU (mZ σ z) 0 i x = mZ σ (upd z i x) := by
  rw [mU_mZ, mZ_0, mZ_mZ]
/-! one lot's nine numbers -/
def zLot (z : Zz) (j : Nat) (f : Nat → Int32) : Zz := fun i => if 44 + 9 * j ≤ i ∧ i < 44 + 9 * j + 9 then f (i - (44 + 9 * j)) else z i
theorem ofz_lot {z : Zz} {j k w : Nat} {f : Nat → Int32} (hw : w < 9) : ofz (zLot z j f) k w = if k = j then f w else ofz z k w := by
  unfold ofz zLot
  by_cases h : k = j
  · subst h
    rw [if_pos (by omega), if_pos rfl, show 44 + 9 * k + w - (44 + 9 * k) = w by omega]
  · rw [if_neg (by omega), if_neg h]
theorem ofz_same {z : Zz} {j w : Nat} {f : Nat → Int32} (hw : w < 9) : ofz (zLot z j f) j w = f w := by
  rw [ofz_lot hw, if_pos rfl]
theorem ofz_ne {z : Zz} {j k w : Nat} {f : Nat → Int32} (h : k ≠ j) (hw : w < 9) : ofz (zLot z j f) k w = ofz z k w := by
  rw [ofz_lot hw, if_neg h]
theorem zLot_sc {z : Zz} {j i : Nat} {f : Nat → Int32} (hi : i < 44) : zLot z j f i = z i := if_neg (by omega)
theorem zLot_self {z : Zz} {j : Nat} : zLot z j (ofz z j) = z := by
  funext i
  unfold zLot ofz
  split
  · next h => rw [show 44 + 9 * j + (i - (44 + 9 * j)) = i by omega]
  · rfl
theorem zLot_lot {z : Zz} {j : Nat} {f g : Nat → Int32} : zLot (zLot z j f) j g = zLot z j g := by
  funext i
  unfold zLot
  split <;> rfl
theorem upd_lot {z : Zz} {j w : Nat} {f : Nat → Int32} {x : Int32} (hw : w < 9) : upd (zLot z j f) (44 + 9 * j + w) x = zLot z j (upd f w x) := by
  funext i
  by_cases h : i = 44 + 9 * j + w
  · subst h
    rw [pk_us]
    unfold zLot
    rw [if_pos (by omega), show 44 + 9 * j + w - (44 + 9 * j) = w by omega, pk_us]
  · rw [pk_un h]
    unfold zLot
    by_cases c : 44 + 9 * j ≤ i ∧ i < 44 + 9 * j + 9
    · rw [if_pos c, if_pos c, pk_un (by omega)]
    · rw [if_neg c, if_neg c]
theorem upd_ofz {z : Zz} {j w : Nat} {x : Int32} (hw : w < 9) : upd z (44 + 9 * j + w) x = zLot z j (upd (ofz z j) w x) := by
  have h := upd_lot (z := z) (j := j) (f := ofz z j) (x := x) hw
  rw [zLot_self] at h
  exact h
theorem ofz_sc {z : Zz} {k w i : Nat} {x : Int32} (hi : i < 44) : ofz (upd z i x) k w = ofz z k w := pk_un (by omega)
theorem ofz_scF {z : Zz} {k i : Nat} {x : Int32} (hi : i < 44) : ofz (upd z i x) k = ofz z k := funext fun _ => ofz_sc hi
theorem ofz_sameF {z : Zz} {j : Nat} {f : Nat → Int32} : ∀ w, w < 9 → ofz (zLot z j f) j w = f w := fun _ hw => ofz_same hw
theorem ofz_neF {z : Zz} {j k : Nat} {f : Nat → Int32} (h : k ≠ j) : ∀ w, w < 9 → ofz (zLot z j f) k w = ofz z k w := fun _ hw => ofz_ne h hw
/-! sums -/
theorem l_sum_congr {f g : Nat → Int32} : ∀ n, (∀ j, j < n → f j = g j) → l_sum f n = l_sum g n
  | 0, _ => rfl
  | n + 1, h => by
    show l_sum f n + f n = l_sum g n + g n
    rw [l_sum_congr n (fun j hj => h j (by omega)), h n (by omega)]
theorem l_sum_one {f g : Nat → Int32} {j : Nat} {d : Int32} : ∀ n, j < n → (∀ i, i < n → i ≠ j → f i = g i) → f j = g j + d → l_sum f n = l_sum g n + d
  | 0, h, _, _ => absurd h (Nat.not_lt_zero _)
  | n + 1, h, h1, h2 => by
    show l_sum f n + f n = l_sum g n + g n + d
    by_cases e : j = n
    · subst e
      rw [l_sum_congr (f := f) (g := g) j (fun i hi => h1 i (by omega) (by omega)), h2, Int32.add_assoc]
    · rw [l_sum_one n (by omega) (fun i hi hn => h1 i (by omega) hn) h2, h1 n (by omega) (fun z => e z.symm), Int32.add_assoc, Int32.add_assoc, Int32.add_comm d]
theorem l_sum_0 {f : Nat → Int32} : ∀ n, (∀ j, j < n → f j = 0) → l_sum f n = 0
  | 0, _ => rfl
  | n + 1, h => by
    show l_sum f n + f n = 0
    rw [l_sum_0 n (fun j hj => h j (by omega)), h n (by omega)]
    rfl
theorem l_sum_add {f g : Nat → Int32} : ∀ n, l_sum (fun j => f j + g j) n = l_sum f n + l_sum g n
  | 0 => rfl
  | n + 1 => by
    show l_sum (fun j => f j + g j) n + (f n + g n) = (l_sum f n + f n) + (l_sum g n + g n)
    rw [l_sum_add n, Int32.add_assoc, Int32.add_assoc, ← Int32.add_assoc (l_sum g n), Int32.add_comm (l_sum g n) (f n), Int32.add_assoc (f n)]
/-! places 0 .. 152 -/
theorem vz {k : Nat} (h : k < 153) : vp_in (nI k) (mLen 0) := vp_in_nI h (Nat.le_of_ble_eq_true rfl)
theorem cz {k : Nat} (h : k < 153) : (nI k).toNatClampNeg = k := nI_clamp (by omega)
theorem zv0 : vp_in 0 (mLen 0) := vz (k := 0) (by decide)
theorem zv1 : vp_in 1 (mLen 0) := vz (k := 1) (by decide)
theorem zv2 : vp_in 2 (mLen 0) := vz (k := 2) (by decide)
theorem zv3 : vp_in 3 (mLen 0) := vz (k := 3) (by decide)
theorem zv4 : vp_in 4 (mLen 0) := vz (k := 4) (by decide)
theorem zv5 : vp_in 5 (mLen 0) := vz (k := 5) (by decide)
theorem zv6 : vp_in 6 (mLen 0) := vz (k := 6) (by decide)
theorem zv7 : vp_in 7 (mLen 0) := vz (k := 7) (by decide)
theorem zv8 : vp_in 8 (mLen 0) := vz (k := 8) (by decide)
theorem zv9 : vp_in 9 (mLen 0) := vz (k := 9) (by decide)
theorem zv10 : vp_in 10 (mLen 0) := vz (k := 10) (by decide)
theorem zv11 : vp_in 11 (mLen 0) := vz (k := 11) (by decide)
theorem zv12 : vp_in 12 (mLen 0) := vz (k := 12) (by decide)
theorem zv13 : vp_in 13 (mLen 0) := vz (k := 13) (by decide)
theorem zv14 : vp_in 14 (mLen 0) := vz (k := 14) (by decide)
theorem zv20 : vp_in 20 (mLen 0) := vz (k := 20) (by decide)
theorem zc0 : (0 : Int32).toNatClampNeg = 0 := by decide
theorem zc1 : (1 : Int32).toNatClampNeg = 1 := by decide
theorem zc2 : (2 : Int32).toNatClampNeg = 2 := by decide
theorem zc3 : (3 : Int32).toNatClampNeg = 3 := by decide
theorem zc4 : (4 : Int32).toNatClampNeg = 4 := by decide
theorem zc5 : (5 : Int32).toNatClampNeg = 5 := by decide
theorem zc6 : (6 : Int32).toNatClampNeg = 6 := by decide
theorem zc7 : (7 : Int32).toNatClampNeg = 7 := by decide
theorem zc8 : (8 : Int32).toNatClampNeg = 8 := by decide
theorem zc9 : (9 : Int32).toNatClampNeg = 9 := by decide
theorem zc10 : (10 : Int32).toNatClampNeg = 10 := by decide
theorem zc11 : (11 : Int32).toNatClampNeg = 11 := by decide
theorem zc12 : (12 : Int32).toNatClampNeg = 12 := by decide
theorem zc13 : (13 : Int32).toNatClampNeg = 13 := by decide
theorem zc14 : (14 : Int32).toNatClampNeg = 14 := by decide
theorem zc20 : (20 : Int32).toNatClampNeg = 20 := by decide
/-- a loop's head: k ahead of n -/
theorem lp_in {k n : Nat} (h : k < n) (hn : n ≤ 12) : ¬ nI n ≤ nI k := nI_ge h (by omega)
theorem lp_out {n : Nat} : nI n ≤ nI n := Int32.le_refl _
/-! least, most -/
def ilst (a b : Int32) : Int32 := if b ≤ a then b else a
def imst (a b : Int32) : Int32 := if a ≤ b then b else a
theorem x6_least {a b : Int32} {Q : Int32 → Prop} (h : Q (ilst a b)) : wp_X6_least a b Q := by
  unfold wp_X6_least
  unfold ilst at h
  refine ⟨fun c => ?_, fun c => ?_⟩
  · rw [if_pos c] at h; exact h
  · rw [if_neg c] at h; exact h
theorem x6_most {a b : Int32} {Q : Int32 → Prop} (h : Q (imst a b)) : wp_X6_most a b Q := by
  unfold wp_X6_most
  unfold imst at h
  refine ⟨fun c => ?_, fun c => ?_⟩
  · rw [if_pos c] at h; exact h
  · rw [if_neg c] at h; exact h
theorem x6_of1 {j w : Nat} {σ : MS} {Q : Int32 → MS → Prop} (hj : j < 12) (hw : w < 9) (h : Q (ofz (σ 0) j w) σ) : wp_X6_of (nI j) (nI w) σ Q := x6_of hj hw h
theorem x6_sets1 {j w : Nat} {x : Int32} {σ : MS} {Q : MS → Prop} (hj : j < 12) (hw : w < 9) (h : Q (mZ σ (zLot (σ 0) j (upd (ofz (σ 0) j) w x)))) : wp_X6_sets (nI j) (nI w) x σ Q := by
  refine x6_sets hj hw ?_
  rw [mU_mZ, upd_ofz hw]
  exact h
theorem x6_sets2 {j w : Nat} {x : Int32} {σ : MS} {z : Zz} {f : Nat → Int32} {Q : MS → Prop} (hj : j < 12) (hw : w < 9) (h : Q (mZ σ (zLot z j (upd f w x)))) : wp_X6_sets (nI j) (nI w) x (mZ σ (zLot z j f)) Q := by
  refine x6_sets hj hw ?_
  rw [mU_mZ2, upd_lot hw]
  exact h
theorem x6_of2 {j w : Nat} {σ : MS} {z : Zz} {f : Nat → Int32} {Q : Int32 → MS → Prop} (hj : j < 12) (hw : w < 9) (h : Q (f w) (mZ σ (zLot z j f))) : wp_X6_of (nI j) (nI w) (mZ σ (zLot z j f)) Q := by
  refine x6_of1 hj hw ?_
  rw [mZ_0, ofz_same hw]
  exact h
theorem upd_lot_sc {z : Zz} {j i : Nat} {f : Nat → Int32} {x : Int32} (hi : i < 44) : upd (zLot z j f) i x = zLot (upd z i x) j f := by
  funext q
  by_cases h : q = i
  · subst h
    rw [pk_us, zLot_sc hi, pk_us]
  · rw [pk_un h]
    unfold zLot
    by_cases c : 44 + 9 * j ≤ q ∧ q < 44 + 9 * j + 9
    · rw [if_pos c, if_pos c]
    · rw [if_neg c, if_neg c, pk_un h]
theorem mLen_le (b : Nat) : mLen b ≤ 765 := by
  unfold mLen
  split <;> decide
theorem m153 (s : Nat) : 153 * nI s = nI (153 * s) := by
  show nI 153 * nI s = nI (153 * s)
  unfold nI
  rw [← Int32.ofNat_mul]
theorem nI_m1 (k : Nat) : nI (k + 1) + (-1) = nI k := by
  rw [← Int32.sub_eq_add_neg, nI_pred]
theorem lp_x (a : Nat) {b : Nat} {P : Prop} (h : b < a) (ha : a < 2 ^ 31) (c : nI a ≤ nI b) : P := absurd c (nI_ge h ha)
