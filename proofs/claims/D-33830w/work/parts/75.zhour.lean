set_option maxRecDepth 100000
/-! PLAIN: an hour of the model -/
theorem jn1 {A : Type} {k : A → Prop} {b : (A → Prop) → Prop} (x : A) (hk : k x) (hb : ∀ k' : A → Prop, k' x → b k') : jn k b := hb k hk
theorem jn2 {A B : Type} {k : A → B → Prop} {b : (A → B → Prop) → Prop} (x : A) (s : B) (hk : k x s) (hb : ∀ k' : A → B → Prop, k' x s → b k') : jn k b := hb k hk
theorem x6_of3 {j w : Nat} {σ : MS} {z : Zz} {f : Nat → Int32} {v : Int32} {Q : Int32 → MS → Prop} (hj : j < 12) (hw : w < 9) (hv : f w = v) (h : Q v (mZ σ (zLot z j f))) : wp_X6_of (nI j) (nI w) (mZ σ (zLot z j f)) Q := by
  refine x6_of2 hj hw ?_
  rw [hv]
  exact h
def gBr (f : Nat → Int32) : Int32 := f 2 * paceF f / 800
def gRo (f : Nat → Int32) : Int32 := f 2 * paceF f / 300
def gDry (a d : Int32) : Int32 := imst 0 (a - d)
def gWet (f : Nat → Int32) (a d : Int32) : Int32 := if gDry a d ≤ 0 then f 4 else imst 12 (f 4 - gDry a d)
def gHt (f : Nat → Int32) (a t : Int32) : Int32 := ((((f 6 + paceF f) + (if f 7 < 8 then 0 else 1)) + (if f 0 = 3 then 1 else 0)) - 2 * a) - t
def gFe (f : Nat → Int32) (t : Int32) : Int32 := if t ≤ 0 then ilst 20 (f 7 + 1) else imst 0 (f 7 - 3 * t)
def growF (f : Nat → Int32) (a d t : Int32) : Nat → Int32 := upd (upd (upd (upd (upd (upd f 5 (ilst 100 (f 5 + paceF f))) 2 ((f 2 - gBr f) - gRo f)) 3 (f 3 + gRo f)) 4 (gWet f a d)) 6 (imst 10 (gHt f a t))) 7 (gFe f t)
def spF (g : Nat → Int32) : Nat → Int32 := upd (upd g 0 6) 1 (-1)
def zG0 (z : Zz) (j : Nat) (a d t : Int32) : Zz := zLot (upd z 12 (z 12 + gBr (ofz z j))) j (growF (ofz z j) a d t)
def zG1 (z : Zz) (j : Nat) (a d t : Int32) : Zz := zBooks (zLot (upd (upd z 12 (z 12 + gBr (ofz z j))) 11 (z 11 + (growF (ofz z j) a d t 2 + growF (ofz z j) a d t 3))) j (spF (growF (ofz z j) a d t))) 6 (nI j)
def zGr (z : Zz) (j : Nat) (a d t : Int32) : Int32 × Zz := if 42 < gHt (ofz z j) a t then (1, zG1 z j a d t) else (0, zG0 z j a d t)
def zGrow (z : Zz) (j : Nat) : Int32 × Zz := zGr z j (zsetg z j 0) (zsetg z j 1) (zsetg z j 2)
theorem x6_grows {j : Nat} {σ : MS} {Q : Int32 → MS → Prop} (hj : j < 12) (hd : ofz (σ 0) j 0 = 2 → ∃ d, d < 4 ∧ ofz (σ 0) j 1 = nI d) (h : Q (zGrow (σ 0) j).1 (mZ σ (zGrow (σ 0) j).2)) : wp_X6_grows (nI j) σ Q := by
  unfold wp_X6_grows
  unfold zGrow at h
  refine x6_pace hj (x6_of1 (w := 2) hj (by decide) (fun x5 e5 x6 e6 => x6_setting (w := 0) hj (by decide) hd (x6_setting (w := 2) hj (by decide) hd (x6_setting (w := 1) hj (by decide) hd (x6_most ?_)))))
  revert h
  generalize zsetg (σ 0) j 0 = a
  generalize zsetg (σ 0) j 1 = d
  generalize zsetg (σ 0) j 2 = t
  intro h
  subst e5
  subst e6
  refine x6_of1 (w := 7) hj (by decide) (x6_of1 (w := 5) hj (by decide) (x6_least (x6_sets1 (w := 5) hj (by decide) (x6_sets2 (w := 2) hj (by decide) (x6_of3 (w := 3) (v := ofz (σ 0) j 3) hj (by decide) (by simp [upd]) (x6_sets2 (w := 3) hj (by decide) ⟨zv12, zv12, fun σ24 e24 => ?_⟩))))))
  rw [zc12, mZ_0, mU_mZ2, zLot_sc (by decide), upd_lot_sc (by decide)] at e24
  subst e24
  refine jn2 (gWet (ofz (σ 0) j) a d) (mZ σ (zLot (upd (σ 0) 12 (σ 0 12 + gBr (ofz (σ 0) j))) j (upd (upd (upd (ofz (σ 0) j) 5 (ilst 100 (ofz (σ 0) j 5 + paceF (ofz (σ 0) j)))) 2 ((ofz (σ 0) j 2 - gBr (ofz (σ 0) j)) - gRo (ofz (σ 0) j))) 3 (ofz (σ 0) j 3 + gRo (ofz (σ 0) j))))) ?_ (fun k' hk => ⟨fun c => x6_of3 (w := 4) (v := ofz (σ 0) j 4) hj (by decide) (by simp [upd]) ?_, fun c => x6_of3 (w := 4) (v := ofz (σ 0) j 4) hj (by decide) (by simp [upd]) (x6_most ?_)⟩)
  rotate_left
  · unfold gWet gDry at hk
    rw [if_pos c] at hk
    exact hk
  · unfold gWet gDry at hk
    rw [if_neg c] at hk
    exact hk
  refine x6_sets2 (w := 4) hj (by decide) (x6_of3 (w := 6) (v := ofz (σ 0) j 6) hj (by decide) (by simp [upd]) ?_)
  refine jn1 (if ofz (σ 0) j 7 < 8 then 0 else 1) ?_ (fun k' hk => ⟨fun c => ?_, fun c => ?_⟩)
  rotate_left
  · rw [if_pos c] at hk; exact hk
  · rw [if_neg c] at hk; exact hk
  refine x6_of3 (w := 0) (v := ofz (σ 0) j 0) hj (by decide) (by simp [upd]) ?_
  refine jn1 (if ofz (σ 0) j 0 = 3 then 1 else 0) ?_ (fun k' hk => ⟨fun c => ?_, fun c => ?_⟩)
  rotate_left
  · rw [if_neg c] at hk; exact hk
  · rw [if_pos c] at hk; exact hk
  refine fun x40 e40 => x6_most (x6_sets2 (w := 6) hj (by decide) ?_)
  have e41 : x40 = gHt (ofz (σ 0) j) a t := e40
  subst e41
  refine jn1 (gFe (ofz (σ 0) j) t) ?_ (fun k' hk => ⟨fun c => x6_least ?_, fun c => x6_most ?_⟩)
  rotate_left
  · unfold gFe at hk
    rw [if_pos c] at hk; exact hk
  · unfold gFe at hk
    rw [if_neg c] at hk; exact hk
  refine x6_sets2 (w := 7) hj (by decide) ⟨fun c => ?_, fun c => ?_⟩
  · unfold zGr at h
    rw [if_pos c] at h
    refine x6_sets2 (w := 0) hj (by decide) (x6_sets2 (w := 1) hj (by decide) ⟨zv11, ?_⟩)
    unfold wp_X6_weight
    refine x6_of3 (w := 2) (v := growF (ofz (σ 0) j) a d t 2) hj (by decide) (by simp [upd, growF]) (x6_of3 (w := 3) (v := growF (ofz (σ 0) j) a d t 3) hj (by decide) (by simp [upd, growF]) ⟨zv11, fun σ52 e52 => ?_⟩)
    rw [zc11, mZ_0, mU_mZ2, zLot_sc (by decide), upd_lot_sc (by decide), pk_un (by decide)] at e52
    subst e52
    exact mZ_books h
  · unfold zGr at h
    rw [if_neg c] at h
    exact h
/-! the kiln -/
def zkh (z : Zz) (x : Int32) : Int32 := if x ≤ 10 then z 3 else z 4
theorem x6_kilnHeat {x : Int32} {σ : MS} {Q : Int32 → MS → Prop} (h : Q (zkh (σ 0) x) σ) : wp_X6_kilnHeat x σ Q := by
  unfold wp_X6_kilnHeat
  unfold zkh at h
  rw [zc3, zc4]
  refine ⟨fun c => ⟨zv3, ?_⟩, fun c => ⟨zv4, ?_⟩⟩
  · rw [if_pos c] at h; exact h
  · rw [if_neg c] at h; exact h
def dryF (f : Nat → Int32) (x : Int32) : Nat → Int32 := upd (upd (upd f 6 x) 4 (imst 3 (f 4 - x / 20))) 8 (if x ≤ 80 then f 8 else if f 4 ≤ 20 then f 8 else 1)
theorem x6_dries {j : Nat} {σ : MS} {Q : MS → Prop} (hj : j < 12) (h : Q (mZ σ (zLot (σ 0) j (dryF (ofz (σ 0) j) (zkh (σ 0) (σ 0 2 + 1)))))) : wp_X6_dries (nI j) σ Q := by
  unfold wp_X6_dries
  rw [zc2]
  refine ⟨zv2, x6_kilnHeat ?_⟩
  revert h
  generalize zkh (σ 0) (σ 0 2 + 1) = x
  intro h
  refine x6_of1 (w := 4) hj (by decide) (x6_sets1 (w := 6) hj (by decide) (x6_most (x6_sets2 (w := 4) hj (by decide) ?_)))
  refine jn2 (if x ≤ 80 then ofz (σ 0) j 8 else if ofz (σ 0) j 4 ≤ 20 then ofz (σ 0) j 8 else 1) (mZ σ (zLot (σ 0) j (upd (upd (ofz (σ 0) j) 6 x) 4 (imst 3 (ofz (σ 0) j 4 - x / 20))))) ?_ (fun k' hk => ⟨fun c => x6_of3 (w := 8) (v := ofz (σ 0) j 8) hj (by decide) (by simp [upd]) ?_, fun c => ⟨fun c2 => x6_of3 (w := 8) (v := ofz (σ 0) j 8) hj (by decide) (by simp [upd]) ?_, fun c2 => ?_⟩⟩)
  · exact x6_sets2 (w := 8) hj (by decide) h
  · rw [if_pos c] at hk; exact hk
  · rw [if_neg c, if_pos c2] at hk; exact hk
  · rw [if_neg c, if_neg c2] at hk; exact hk
/-! malt -/
def zmn (z : Zz) (v : Int32) : Nat → Int32
  | 0 => v
  | k + 1 => if ofz z k 0 = 4 then (if ofz z k 4 ≤ 4 then zmn z v k else 0) else zmn z v k
def zMalt (z : Zz) (k : Nat) : Zz := zBooks (zLot (upd (upd z 9 (z 9 + ofz z k 2)) 10 (z 10 + ofz z k 3)) k (upd (ofz z k) 0 5)) 7 (nI k)
def zM1 (z : Zz) (k : Nat) : Zz := if ofz z k 0 = 4 then zMalt z k else z
def zMs (z : Zz) : Nat → Zz
  | 0 => z
  | k + 1 => zM1 (zMs z k) k
theorem zMalt_sc {z : Zz} {k i : Nat} (h9 : i ≠ 9) (h10 : i ≠ 10) (h : i ≠ 14) (h2 : i < 20 ∨ (32 ≤ i ∧ i < 44)) : zMalt z k i = z i := by
  unfold zMalt
  rw [zBooks_n h (by omega), zLot_sc (by omega), pk_un h10, pk_un h9]
theorem zM1_sc {z : Zz} {k i : Nat} (h9 : i ≠ 9) (h10 : i ≠ 10) (h : i ≠ 14) (h2 : i < 20 ∨ (32 ≤ i ∧ i < 44)) : zM1 z k i = z i := by
  unfold zM1
  split
  · exact zMalt_sc h9 h10 h h2
  · rfl
theorem zMs_sc {z : Zz} {i : Nat} (h9 : i ≠ 9) (h10 : i ≠ 10) (h : i ≠ 14) (h2 : i < 20 ∨ (32 ≤ i ∧ i < 44)) : ∀ k, zMs z k i = z i
  | 0 => rfl
  | k + 1 => (zM1_sc h9 h10 h h2).trans (zMs_sc h9 h10 h h2 k)
theorem x6_malts_L8 {kx : Int32 → Int32 → MS → Prop} {v : Int32} {n : Nat} {σ : MS} (hn : σ 0 7 = nI n) (h12 : n ≤ 12) (h : kx (zmn (σ 0) v n) (nI n) σ) : ∀ m F k, k + m = n → m < F → wp_X6_malts_L8 kx F (zmn (σ 0) v k) (nI k) σ := by
  intro m
  induction m with
  | zero =>
    intro F k e hF
    obtain ⟨F, rfl⟩ := fpos hF
    obtain rfl : k = n := by omega
    rw [wp_X6_malts_L8, zc7, hn]
    exact ⟨zv7, fun _ => h, fun c => absurd lp_out c⟩
  | succ m ih =>
    intro F k e hF
    obtain ⟨F, rfl⟩ := fpos hF
    rw [wp_X6_malts_L8, zc7, hn]
    have e1 := ih F (k + 1) (by omega) (by omega)
    rw [nI_succ, zmn] at e1
    refine ⟨zv7, fun c => absurd c (lp_in (by omega) h12), fun _ => x6_of1 (w := 0) (by omega) (by decide) (jnI ⟨fun c => ?_, fun c => x6_of1 (w := 4) (by omega) (by decide) ⟨fun c2 => ?_, fun c2 => ?_⟩⟩)⟩
    · rw [if_neg c] at e1; exact e1
    · rw [if_pos c, if_pos c2] at e1; exact e1
    · rw [if_pos c, if_neg c2] at e1; exact e1
theorem x6_malts_L53 {kx : Int32 → MS → Prop} {x : Int32} (hx : ¬ x ≤ 0) {n : Nat} {σ : MS} (hn : σ 0 7 = nI n) (h12 : n ≤ 12) (h : kx (nI n) (mZ σ (zMs (σ 0) n))) : ∀ m F k, k + m = n → m < F → wp_X6_malts_L53 kx x F (nI k) (mZ σ (zMs (σ 0) k)) := by
  intro m
  induction m with
  | zero =>
    intro F k e hF
    obtain ⟨F, rfl⟩ := fpos hF
    obtain rfl : k = n := by omega
    rw [wp_X6_malts_L53, zc7, mZ_0, zMs_sc (by decide) (by decide) (by decide) (by decide), hn]
    exact ⟨zv7, fun _ => h, fun c => absurd lp_out c⟩
  | succ m ih =>
    intro F k e hF
    obtain ⟨F, rfl⟩ := fpos hF
    rw [wp_X6_malts_L53, zc7, mZ_0, zMs_sc (by decide) (by decide) (by decide) (by decide), hn]
    have e1 := ih F (k + 1) (by omega) (by omega)
    rw [nI_succ, zMs] at e1
    unfold zM1 at e1
    refine ⟨zv7, fun c => absurd c (lp_in (by omega) h12), fun _ => ⟨fun c => absurd c hx, fun _ => x6_of1 (w := 0) (by omega) (by decide) (jnI ⟨fun c => ?_, fun c => ?_⟩)⟩⟩
    · rw [mZ_0] at c
      rw [if_neg c] at e1; exact e1
    · rw [mZ_0] at c
      rw [if_pos c] at e1
      refine x6_sets1 (w := 0) (by omega) (by decide) ?_
      rw [mZ_0, mZ_mZ]
      refine ⟨zv9, x6_of3 (w := 2) (v := ofz (zMs (σ 0) k) k 2) (by omega) (by decide) (by simp [upd]) ⟨zv9, fun σ25 e25 => ?_⟩⟩
      rw [zc9, mZ_0, mU_mZ2, zLot_sc (by decide), upd_lot_sc (by decide)] at e25
      subst e25
      refine ⟨zv10, x6_of3 (w := 3) (v := ofz (zMs (σ 0) k) k 3) (by omega) (by decide) (by simp [upd]) ⟨zv10, fun σ28 e28 => ?_⟩⟩
      rw [zc10, mZ_0, mU_mZ2, zLot_sc (by decide), upd_lot_sc (by decide), pk_un (by decide)] at e28
      subst e28
      exact mZ_books e1
def zmv (z : Zz) (n : Nat) : Int32 := zmn z (zcnt z n 4) n
def zMm (z : Zz) (n : Nat) : Zz := if zmv z n ≤ 0 then z else zMs z n
theorem x6_malts {n : Nat} {σ : MS} {Q : Int32 → MS → Prop} (hn : σ 0 7 = nI n) (h12 : n ≤ 12) (h : Q (zmv (σ 0) n) (mZ σ (zMm (σ 0) n))) : wp_X6_malts σ Q := by
  unfold wp_X6_malts
  refine x6_countIn hn h12 (jnI ?_)
  refine x6_malts_L8 (kx := fun (x7 : Int32) (_ : Int32) (σ9 : MS) => (jn (fun (x13 : Int32) (σ14 : MS) => (Q x7 σ14)) (fun kx12 => wp_X6_malts_L53 kx12 x7 mF 0 σ9))) hn h12 ?_ n mF 0 (by omega) (by unfold mF; omega)
  refine jnI ?_
  unfold zMm at h
  by_cases c : zmv (σ 0) n ≤ 0
  · rw [if_pos c, mZ_self] at h
    show wp_X6_malts_L53 _ _ (999 + 1) _ _
    rw [wp_X6_malts_L53, zc7, hn]
    exact ⟨zv7, fun _ => h, fun _ => ⟨fun _ => h, fun d => absurd c d⟩⟩
  · rw [if_neg c] at h
    have e := x6_malts_L53 (kx := fun (x13 : Int32) (σ14 : MS) => Q (zmv (σ 0) n) σ14) c hn h12 h n mF 0 (by omega) (by unfold mF; omega)
    rw [zMs, mZ_self] at e
    exact e
/-! the hour -/
def steF (f : Nat → Int32) : Nat → Int32 := upd (upd f 4 (ilst 46 (f 4 + 4))) 6 (if f 6 ≤ 14 then ilst 14 (f 6 + 2) else imst 14 (f 6 - 2))
def zHL (z : Zz) (k : Nat) : Int32 × Zz := if ofz z k 0 = 1 then (0, zLot z k (steF (ofz z k))) else if ofz z k 0 = 2 ∨ ofz z k 0 = 3 then zGrow z k else if ofz z k 0 = 4 ∧ z 1 = 1 then (0, zLot z k (dryF (ofz z k) (zkh z (z 2 + 1)))) else (0, z)
def zHLs (z : Zz) : Nat → Int32 × Zz
  | 0 => (0, z)
  | k + 1 => ((zHLs z k).1 + (zHL (zHLs z k).2 k).1, (zHL (zHLs z k).2 k).2)
theorem zHL_ne {z : Zz} {k j w : Nat} (h : j ≠ k) (hw : w < 9) : ofz (zHL z k).2 j w = ofz z j w := by
  unfold zHL
  split
  · exact ofz_ne h hw
  · split
    · unfold zGrow zGr
      split
      · show ofz (zG1 z k _ _ _) j w = _
        unfold zG1
        rw [ofz_books, ofz_ne h hw, ofz_sc (by decide), ofz_sc (by decide)]
      · show ofz (zG0 z k _ _ _) j w = _
        unfold zG0
        rw [ofz_ne h hw, ofz_sc (by decide)]
    · split
      · exact ofz_ne h hw
      · rfl
theorem zHL_sc {z : Zz} {k i : Nat} (h11 : i ≠ 11) (h12 : i ≠ 12) (h : i ≠ 14) (h2 : i < 20 ∨ (32 ≤ i ∧ i < 44)) : (zHL z k).2 i = z i := by
  unfold zHL
  split
  · exact zLot_sc (by omega)
  · split
    · unfold zGrow zGr
      split
      · show zG1 z k _ _ _ i = _
        unfold zG1
        rw [zBooks_n h (by omega), zLot_sc (by omega), pk_un h11, pk_un h12]
      · show zG0 z k _ _ _ i = _
        unfold zG0
        rw [zLot_sc (by omega), pk_un h12]
    · split
      · exact zLot_sc (by omega)
      · rfl
theorem zHLs_ge {z : Zz} {j w : Nat} (hw : w < 9) : ∀ k, k ≤ j → ofz (zHLs z k).2 j w = ofz z j w
  | 0, _ => rfl
  | k + 1, h => (zHL_ne (by omega) hw).trans (zHLs_ge hw k (by omega))
theorem zHLs_sc {z : Zz} {i : Nat} (h11 : i ≠ 11) (h12 : i ≠ 12) (h : i ≠ 14) (h2 : i < 20 ∨ (32 ≤ i ∧ i < 44)) : ∀ k, (zHLs z k).2 i = z i
  | 0 => rfl
  | k + 1 => (zHL_sc h11 h12 h h2).trans (zHLs_sc h11 h12 h h2 k)
def zOK (z : Zz) (n : Nat) : Prop := z 7 = nI n ∧ n ≤ 12 ∧ ∀ j, j < n → ofz z j 0 = 2 → ∃ d, d < 4 ∧ ofz z j 1 = nI d
theorem x6_hour_L {kx : Int32 → Int32 → MS → Prop} {n : Nat} {σ : MS} (hO : zOK (σ 0) n) (h : kx (zHLs (σ 0) n).1 (nI n) (mZ σ (zHLs (σ 0) n).2)) : ∀ m F k, k + m = n → m < F → wp_X6_hour_L49 kx F (zHLs (σ 0) k).1 (nI k) (mZ σ (zHLs (σ 0) k).2) := by
  obtain ⟨hn, h12, hd⟩ := hO
  intro m
  induction m with
  | zero =>
    intro F k e hF
    obtain ⟨F, rfl⟩ := fpos hF
    obtain rfl : k = n := by omega
    rw [wp_X6_hour_L49, zc7, mZ_0, zHLs_sc (by decide) (by decide) (by decide) (by decide), hn]
    exact ⟨zv7, fun _ => h, fun c => absurd lp_out c⟩
  | succ m ih =>
    intro F k e hF
    obtain ⟨F, rfl⟩ := fpos hF
    rw [wp_X6_hour_L49, zc7, mZ_0, zHLs_sc (by decide) (by decide) (by decide) (by decide), hn]
    have hk : k < 12 := by omega
    have e1 := ih F (k + 1) (by omega) (by omega)
    rw [nI_succ, zHLs] at e1
    have hdk : ofz ((mZ σ (zHLs (σ 0) k).2) 0) k 0 = 2 → ∃ d, d < 4 ∧ ofz ((mZ σ (zHLs (σ 0) k).2) 0) k 1 = nI d := by
      rw [mZ_0, zHLs_ge (by decide) k (Nat.le_refl _), zHLs_ge (by decide) k (Nat.le_refl _)]
      exact hd k (by omega)
    revert e1 hdk
    generalize zHLs (σ 0) k = r
    intro e1 hdk
    refine ⟨zv7, fun c => absurd c (lp_in (by omega) h12), fun _ => x6_of1 (w := 0) hk (by decide) (jnI ?_)⟩
    rw [mZ_0]
    unfold zHL at e1
    refine ⟨fun c1 => ⟨fun c2 => x6_grows hk hdk ?_, fun c2 => ⟨fun c3 => ⟨fun c4 => ?_, fun c4 => ⟨zv1, ?_⟩⟩, fun c3 => x6_grows hk hdk ?_⟩⟩, fun c1 => ?_⟩
    · rw [if_neg c1, if_pos (Or.inl c2)] at e1
      rw [mZ_0, mZ_mZ]
      exact e1
    · rw [if_neg c1, if_neg (fun z => z.elim c2 c3), if_neg (fun z => c4 z.1), Int32.add_zero] at e1
      exact e1
    · rw [zc1]
      refine ⟨fun c5 => ?_, fun c5 => x6_dries hk ?_⟩
      · rw [if_neg c1, if_neg (fun z => z.elim c2 c3), if_neg (fun z => c5 z.2), Int32.add_zero] at e1
        exact e1
      · rw [if_neg c1, if_neg (fun z => z.elim c2 c3), if_pos ⟨c4, c5⟩, Int32.add_zero] at e1
        rw [mZ_0, mZ_mZ]
        exact e1
    · rw [if_neg c1, if_pos (Or.inr c3)] at e1
      rw [mZ_0, mZ_mZ]
      exact e1
    · rw [if_pos c1, Int32.add_zero] at e1
      refine x6_of1 (w := 6) hk (by decide) (x6_of1 (w := 4) hk (by decide) (x6_least (x6_sets1 (w := 4) hk (by decide) ?_)))
      rw [mZ_0, mZ_mZ]
      refine jn1 (if ofz r.2 k 6 ≤ 14 then ilst 14 (ofz r.2 k 6 + 2) else imst 14 (ofz r.2 k 6 - 2)) ?_ (fun k' hk' => ⟨fun c => x6_least ?_, fun c => x6_most ?_⟩)
      · exact x6_sets2 (w := 6) hk (by decide) e1
      · rw [if_pos c] at hk'; exact hk'
      · rw [if_neg c] at hk'; exact hk'
def zT (z : Zz) : Zz := upd (upd z 0 (z 0 + 1)) 6 (if (z 0 + 1) - (z 0 + 1) / 24 * 24 = 0 then z 5 else z 6)
def zEnd (z : Zz) (n : Nat) : Int32 × Zz := (zmv z n, upd (upd (zMm z n) 1 (if zmv z n ≤ 0 then 1 else 0)) 2 (if zmv z n ≤ 0 then z 2 else 0))
def zHour (z : Zz) (n : Nat) : Int32 × Zz :=
  if z 1 = 1 then ((zHLs (zT z) n).1 + (zEnd (upd (zHLs (zT z) n).2 2 (z 2 + 1)) n).1, (zEnd (upd (zHLs (zT z) n).2 2 (z 2 + 1)) n).2) else zHLs (zT z) n
theorem zT_sc {z : Zz} {i : Nat} (h0 : i ≠ 0) (h6 : i ≠ 6) : zT z i = z i := by
  unfold zT
  rw [pk_un h6, pk_un h0]
theorem ofz_T {z : Zz} {k w : Nat} : ofz (zT z) k w = ofz z k w := zT_sc (by omega) (by omega)
theorem x6_hour {n : Nat} {σ : MS} {Q : Int32 → MS → Prop} (hO : zOK (σ 0) n) (h : Q (zHour (σ 0) n).1 (mZ σ (zHour (σ 0) n).2)) : wp_X6_hour σ Q := by
  unfold wp_X6_hour
  rw [zc0, zc6, zc5, zc1, zc2]
  refine ⟨zv0, zv0, fun σ1 e1 => ⟨zv0, ?_⟩⟩
  rw [mU_mZ] at e1
  subst e1
  rw [mZ_0, pk_us, pk_un (show 5 ≠ 0 by decide), pk_un (show 6 ≠ 0 by decide)]
  refine jn1 (if (σ 0 0 + 1) - (σ 0 0 + 1) / 24 * 24 = 0 then σ 0 5 else σ 0 6) ⟨zv6, fun σ5 e5 => jnI ?_⟩ (fun k' hk => ⟨fun c => ⟨zv6, ?_⟩, fun c => ⟨zv5, ?_⟩⟩)
  · rw [mU_mZ2] at e5
    have e6 : σ5 = mZ σ (zT (σ 0)) := e5
    subst e6
    have hT : zOK ((mZ σ (zT (σ 0))) 0) n := by
      rw [mZ_0]
      obtain ⟨a1, a2, a3⟩ := hO
      refine ⟨(zT_sc (by decide) (by decide)).trans a1, a2, fun j hj => ?_⟩
      rw [ofz_T, ofz_T]
      exact a3 j hj
    have e := x6_hour_L (kx := fun (x10 : Int32) (_ : Int32) (σ12 : MS) => (vp_in 1 (mLen 0) ∧ (((¬ (σ12 0 1) = 1) → (Q x10 σ12)) ∧ (((σ12 0 1) = 1) → (vp_in 2 (mLen 0) ∧ (vp_in 2 (mLen 0) ∧ ∀ σ14 : MS, σ14 = mU σ12 0 2 ((σ12 0 2) + 1) → (wp_X6_malts σ14 (fun v16 σ15 => (jn (fun (x19 : Int32) => (vp_in 1 (mLen 0) ∧ ∀ σ20 : MS, σ20 = mU σ15 0 1 x19 → (jn (fun (x23 : Int32) => (vp_in 2 (mLen 0) ∧ ∀ σ24 : MS, σ24 = mU σ20 0 2 x23 → (Q (x10 + v16) σ24))) (fun kj22 => (((v16 ≤ 0) → (vp_in 2 (mLen 0) ∧ (kj22 (σ20 0 2)))) ∧ ((¬ v16 ≤ 0) → (kj22 0))))))) (fun kj18 => (((v16 ≤ 0) → (kj18 1)) ∧ ((¬ v16 ≤ 0) → (kj18 0))))))))))))) hT ?_ n mF 0 (by omega) (by have := hO.2.1; unfold mF; omega)
    · rw [zHLs] at e
      rw [show mZ (mZ σ (zT (σ 0))) ((mZ σ (zT (σ 0))) 0) = mZ σ (zT (σ 0)) from mZ_self] at e
      exact e
    · have hn : (zHLs (zT (σ 0)) n).2 7 = nI n := (zHLs_sc (by decide) (by decide) (by decide) (by decide) n).trans ((zT_sc (by decide) (by decide)).trans hO.1)
      have h1 : (zHLs (zT (σ 0)) n).2 1 = σ 0 1 := (zHLs_sc (by decide) (by decide) (by decide) (by decide) n).trans (zT_sc (by decide) (by decide))
      have h2 : (zHLs (zT (σ 0)) n).2 2 = σ 0 2 := (zHLs_sc (by decide) (by decide) (by decide) (by decide) n).trans (zT_sc (by decide) (by decide))
      simp only [mZ_0, mZ_mZ]
      unfold zHour at h
      revert h hn h1 h2
      generalize zHLs (zT (σ 0)) n = r
      intro h hn h1 h2
      refine ⟨zv1, ?_⟩
      rw [h1, h2]
      refine ⟨fun c => ?_, fun c => ⟨zv2, zv2, fun σ14 e14 => ?_⟩⟩
      · rw [if_neg c] at h
        exact h
      · rw [if_pos c] at h
        rw [mU_mZ2] at e14
        subst e14
        refine x6_malts (n := n) (by rw [mZ_0, pk_un (by decide)]; exact hn) hO.2.1 ?_
        rw [mZ_0, mZ_mZ]
        unfold zEnd at h
        have h3 : (upd r.2 2 (σ 0 2 + 1)) 2 = σ 0 2 + 1 := pk_us
        revert h h3
        generalize upd r.2 2 (σ 0 2 + 1) = y
        intro h h3
        have h4 : zMm y n 2 = y 2 := by
          unfold zMm
          split
          · rfl
          · exact zMs_sc (by decide) (by decide) (by decide) (by decide) n
        refine jn1 (if zmv y n ≤ 0 then 1 else 0) ⟨zv1, fun σ20 e20 => ?_⟩ (fun k' hk => ⟨fun c => ?_, fun c => ?_⟩)
        · rw [mU_mZ2] at e20
          subst e20
          rw [mZ_0, pk_un (show 2 ≠ 1 by decide), h4]
          refine jn1 (if zmv y n ≤ 0 then y 2 else 0) ⟨zv2, fun σ24 e24 => ?_⟩ (fun k' hk => ⟨fun c => ⟨zv2, ?_⟩, fun c => ?_⟩)
          · rw [mU_mZ2] at e24
            subst e24
            exact h
          · rw [if_pos c] at hk; exact hk
          · rw [if_neg c] at hk; exact hk
        · rw [if_pos c] at hk; exact hk
        · rw [if_neg c] at hk; exact hk
  · rw [if_neg c] at hk; exact hk
  · rw [if_pos c] at hk; exact hk
def zHours (z : Zz) (n : Nat) : Nat → Int32 × Zz
  | 0 => (0, z)
  | h + 1 => ((zHours z n h).1 + (zHour (zHours z n h).2 n).1, (zHour (zHours z n h).2 n).2)
theorem x6_hours_L {kx : Int32 → Int32 → MS → Prop} {n hs : Nat} {σ : MS} (hh : hs < 1000) (hO : ∀ i, i < hs → zOK (zHours (σ 0) n i).2 n) (h : kx (zHours (σ 0) n hs).1 (nI hs) (mZ σ (zHours (σ 0) n hs).2)) : ∀ m F k, k + m = hs → m < F → wp_X6_hours_L4 kx (nI hs) F (zHours (σ 0) n k).1 (nI k) (mZ σ (zHours (σ 0) n k).2) := by
  intro m
  induction m with
  | zero =>
    intro F k e hF
    obtain ⟨F, rfl⟩ := fpos hF
    obtain rfl : k = hs := by omega
    rw [wp_X6_hours_L4]
    exact ⟨fun _ => h, fun c => absurd lp_out c⟩
  | succ m ih =>
    intro F k e hF
    obtain ⟨F, rfl⟩ := fpos hF
    rw [wp_X6_hours_L4]
    have e1 := ih F (k + 1) (by omega) (by omega)
    rw [nI_succ, zHours] at e1
    refine ⟨fun c => absurd c (nI_ge (by omega) (by omega)), fun _ => x6_hour (n := n) ?_ ?_⟩
    · rw [mZ_0]
      exact hO k (by omega)
    · rw [mZ_0, mZ_mZ]
      exact e1
theorem x6_hours {n hs : Nat} {σ : MS} {Q : Int32 → MS → Prop} (hh : hs < 1000) (hO : ∀ i, i < hs → zOK (zHours (σ 0) n i).2 n) (h : Q (zHours (σ 0) n hs).1 (mZ σ (zHours (σ 0) n hs).2)) : wp_X6_hours (nI hs) σ Q := by
  unfold wp_X6_hours
  have e := x6_hours_L (kx := fun x _ s => Q x s) hh hO h hs mF 0 (by omega) (by unfold mF; omega)
  rw [zHours, mZ_self] at e
  exact e
