set_option maxRecDepth 100000
/-! PLAIN: what the house's methods do: one lot's seven numbers -/
def hLot (y : MS) (j : Nat) (f : Nat → Int32) : MS := fun b i => if i = j then (if b = 0 then f 2 else if b = 1 then f 3 else if b = 2 then f 4 else if b = 3 then f 5 else if b = 4 then f 6 else if b = 5 then f 7 else if b = 6 then f 0 else y b i) else y b i
theorem hLot_self {y : MS} {j : Nat} {f : Nat → Int32} (h : E1 y f j) : hLot y j f = y := by
  obtain ⟨e6, e0, e1, e2, e3, e4, e5⟩ := h
  funext b i
  unfold hLot
  by_cases hi : i = j
  · subst hi
    rw [if_pos rfl]
    by_cases h0 : b = 0
    · subst h0; rw [if_pos rfl, e0]
    rw [if_neg h0]
    by_cases h1 : b = 1
    · subst h1; rw [if_pos rfl, e1]
    rw [if_neg h1]
    by_cases h2 : b = 2
    · subst h2; rw [if_pos rfl, e2]
    rw [if_neg h2]
    by_cases h3 : b = 3
    · subst h3; rw [if_pos rfl, e3]
    rw [if_neg h3]
    by_cases h4 : b = 4
    · subst h4; rw [if_pos rfl, e4]
    rw [if_neg h4]
    by_cases h5 : b = 5
    · subst h5; rw [if_pos rfl, e5]
    rw [if_neg h5]
    by_cases h6 : b = 6
    · subst h6; rw [if_pos rfl, e6]
    rw [if_neg h6]
  · rw [if_neg hi]
theorem hLot_ne {y : MS} {j i b : Nat} {f : Nat → Int32} (h : i ≠ j) : hLot y j f b i = y b i := if_neg h
theorem hLot_b {y : MS} {j i b : Nat} {f : Nat → Int32} (h : 7 ≤ b) : hLot y j f b i = y b i := by
  unfold hLot
  split
  · rw [if_neg (by omega), if_neg (by omega), if_neg (by omega), if_neg (by omega), if_neg (by omega), if_neg (by omega), if_neg (by omega)]
  · rfl
theorem hLot_bF {y : MS} {j b : Nat} {f : Nat → Int32} (h : 7 ≤ b) : hLot y j f b = y b := funext fun _ => hLot_b h
theorem hLot_0 {y : MS} {j : Nat} {f : Nat → Int32} : hLot y j f 0 j = f 2 := by simp [hLot]
theorem hLot_1 {y : MS} {j : Nat} {f : Nat → Int32} : hLot y j f 1 j = f 3 := by simp [hLot]
theorem hLot_2 {y : MS} {j : Nat} {f : Nat → Int32} : hLot y j f 2 j = f 4 := by simp [hLot]
theorem hLot_3 {y : MS} {j : Nat} {f : Nat → Int32} : hLot y j f 3 j = f 5 := by simp [hLot]
theorem hLot_4 {y : MS} {j : Nat} {f : Nat → Int32} : hLot y j f 4 j = f 6 := by simp [hLot]
theorem hLot_5 {y : MS} {j : Nat} {f : Nat → Int32} : hLot y j f 5 j = f 7 := by simp [hLot]
theorem hLot_6 {y : MS} {j : Nat} {f : Nat → Int32} : hLot y j f 6 j = f 0 := by simp [hLot]
theorem hU_0 {y : MS} {j : Nat} {f : Nat → Int32} {x : Int32} {t : List Int32 × Nat} : hU (hLot y j f, t) 0 j x = (hLot y j (upd f 2 x), t) := by
  unfold hU
  congr 1
  funext q i
  unfold mU hLot upd
  by_cases hi : i = j <;> by_cases hq : q = 0 <;> simp [hi, hq]
theorem hU_1 {y : MS} {j : Nat} {f : Nat → Int32} {x : Int32} {t : List Int32 × Nat} : hU (hLot y j f, t) 1 j x = (hLot y j (upd f 3 x), t) := by
  unfold hU
  congr 1
  funext q i
  unfold mU hLot upd
  by_cases hi : i = j <;> by_cases hq : q = 1 <;> simp [hi, hq]
theorem hU_2 {y : MS} {j : Nat} {f : Nat → Int32} {x : Int32} {t : List Int32 × Nat} : hU (hLot y j f, t) 2 j x = (hLot y j (upd f 4 x), t) := by
  unfold hU
  congr 1
  funext q i
  unfold mU hLot upd
  by_cases hi : i = j <;> by_cases hq : q = 2 <;> simp [hi, hq]
theorem hU_3 {y : MS} {j : Nat} {f : Nat → Int32} {x : Int32} {t : List Int32 × Nat} : hU (hLot y j f, t) 3 j x = (hLot y j (upd f 5 x), t) := by
  unfold hU
  congr 1
  funext q i
  unfold mU hLot upd
  by_cases hi : i = j <;> by_cases hq : q = 3 <;> simp [hi, hq]
theorem hU_4 {y : MS} {j : Nat} {f : Nat → Int32} {x : Int32} {t : List Int32 × Nat} : hU (hLot y j f, t) 4 j x = (hLot y j (upd f 6 x), t) := by
  unfold hU
  congr 1
  funext q i
  unfold mU hLot upd
  by_cases hi : i = j <;> by_cases hq : q = 4 <;> simp [hi, hq]
theorem hU_5 {y : MS} {j : Nat} {f : Nat → Int32} {x : Int32} {t : List Int32 × Nat} : hU (hLot y j f, t) 5 j x = (hLot y j (upd f 7 x), t) := by
  unfold hU
  congr 1
  funext q i
  unfold mU hLot upd
  by_cases hi : i = j <;> by_cases hq : q = 5 <;> simp [hi, hq]
theorem hU_6 {y : MS} {j : Nat} {f : Nat → Int32} {x : Int32} {t : List Int32 × Nat} : hU (hLot y j f, t) 6 j x = (hLot y j (upd f 0 x), t) := by
  unfold hU
  congr 1
  funext q i
  unfold mU hLot upd
  by_cases hi : i = j <;> by_cases hq : q = 6 <;> simp [hi, hq]
theorem hU_s {y : MS} {j b i : Nat} {f : Nat → Int32} {x : Int32} {t : List Int32 × Nat} (hb : 7 ≤ b) : hU (hLot y j f, t) b i x = (hLot (mU y b i x) j f, t) := by
  unfold hU
  congr 1
  funext q k
  show (if q = b then upd (hLot y j f b) i x else hLot y j f q) k = hLot (mU y b i x) j f q k
  by_cases hq : q = b
  · subst hq
    rw [if_pos rfl, hLot_b hb, m_u0, hLot_bF hb]
  · rw [if_neg hq]
    unfold hLot
    rw [m_un hq]
theorem hLot_E1 {y : MS} {j : Nat} {f : Nat → Int32} : E1 (hLot y j f) f j := ⟨hLot_6, hLot_0, hLot_1, hLot_2, hLot_3, hLot_4, hLot_5⟩
theorem iMin_eq (a b : Int32) : iMin a b = ilst a b := by
  unfold iMin ilst
  by_cases h : b < a
  · rw [if_pos h, if_pos (Int32.le_of_lt h)]
  · rw [if_neg h]
    by_cases h2 : b ≤ a
    · rw [if_pos h2]
      exact Int32.le_antisymm (Int32.not_lt.mp h) h2
    · rw [if_neg h2]
theorem iMax_eq (a b : Int32) : iMax a b = imst a b := by
  unfold iMax imst
  by_cases h : a < b
  · rw [if_pos h, if_pos (Int32.le_of_lt h)]
  · rw [if_neg h]
    by_cases h2 : a ≤ b
    · rw [if_pos h2]
      exact Int32.le_antisymm h2 (Int32.not_lt.mp h)
    · rw [if_neg h2]
theorem gDry_0 (a d : Int32) : gDry a d ≤ 0 ↔ gDry a d = 0 := by
  unfold gDry imst
  split
  · next h => exact ⟨fun c => Int32.le_antisymm c h, fun c => by rw [c]; exact Int32.le_refl _⟩
  · exact ⟨fun _ => rfl, fun _ => Int32.le_refl _⟩
theorem hAir_l {y : MS} {j b i : Nat} {g : Nat → Int32} {x : Int32} {t t' : List Int32 × Nat} : hAir (hLot (mU y 11 i x) j g, t) b = hAir (y, t') b ∧ hDew (hLot (mU y 11 i x) j g, t) b = hDew (y, t') b ∧ hTurn (hLot (mU y 11 i x) j g, t) b = hTurn (y, t') b := by
  unfold hAir hDew hTurn
  refine ⟨?_, ?_, ?_⟩ <;> (split; · rfl) <;> exact (hLot_b (by decide)).trans (congrFun (m_un (by decide)) _)
theorem heat_tab : ∀ k, k < 49 → imst (nI k) (ilst 46 (nI k + 4)) = ilst 46 (nI k + 4) ∨ 46 < k := by decide +kernel
theorem to_nI {x : Int32} {n : Nat} (h0 : 0 ≤ x.toInt) (h1 : x.toInt ≤ n) : ∃ k, k ≤ n ∧ x = nI k := by
  have hx : ¬ x < 0 := by
    rw [Int32.lt_iff_toInt_lt]
    have : (0 : Int32).toInt = 0 := by decide
    omega
  obtain ⟨k, hk, rfl⟩ := nI_of hx
  rw [nI_toInt hk] at h1
  exact ⟨k, by omega, rfl⟩
def glV (f : Nat → Int32) (x : Int32) (j : Nat) : Int32 := if x ≤ 80 then 0 else if f 4 ≤ 20 then 0 else (1 : Int32) <<< (nI j &&& 31)
theorem i_ss (a b c : Int32) : a - (b + c) = (a - b) - c := (Int32.sub_sub a b c).symm
section HO
variable {n j : Nat} {y : MS} {f : Nat → Int32} {t : List Int32 × Nat} {z : Zz}
/-- an hour in the steep -/
theorem x2_steepHour {Q : HS → Prop} (hj : j < 12) (h4 : 12 ≤ (f 4).toInt ∧ (f 4).toInt ≤ 46) (h6 : f 6 = 14 ∨ f 6 = 15) (h : Q (hLot y j (steF f), t)) : wp_X2_steepHour (nI j) (hLot y j f, t) Q := by
  unfold wp_X2_steepHour
  rw [cl hj]
  have hv : vp_in (nI j) 12 := vl hj
  refine ⟨hv, hv, fun v1 e1 v2 e2 => ⟨hv, fun s3 e3 => ⟨hv, fun x4 e4 => ⟨hv, fun v5 e5 v6 e6 => ⟨hv, fun s7 e7 => ?_⟩⟩⟩⟩⟩
  have a4 : (hLot y j f, t).1 2 j = f 4 := hLot_2
  rw [a4, iMin_eq] at e1
  rw [a4, e1, iMax_eq] at e2
  have b4 : v2 = ilst 46 (f 4 + 4) := by
    rw [e2]
    obtain ⟨k, hk, e⟩ := to_nI (x := f 4) (n := 46) (by omega) (by omega)
    rw [e]
    rcases heat_tab k (by omega) with q | q
    · exact q
    · omega
  rw [b4, hU_2] at e3
  subst e3
  have a6 : (hLot y j (upd f 4 (ilst 46 (f 4 + 4))), t).1 4 j = f 6 := by
    rw [show (hLot y j (upd f 4 (ilst 46 (f 4 + 4))), t).1 4 j = (upd f 4 (ilst 46 (f 4 + 4))) 6 from hLot_4, pk_un (by decide)]
  rw [a6] at e4 e7
  rw [hU_4] at e7
  have b6 : f 6 + v6 = if f 6 ≤ 14 then ilst 14 (f 6 + 2) else imst 14 (f 6 - 2) := by
    rw [e6, e5, e4]
    rcases h6 with q | q <;> rw [q] <;> decide
  rw [b6] at e7
  rw [e7]
  exact h
/-- an hour in a bed -/
theorem x2_growHour {b : Nat} {a d tu : Int32} {Q : Int32 → HS → Prop} (hb : b < 5) (hA : hAir (y, t) b = a) (hDw : hDew (y, t) b = d) (hT : hTurn (y, t) b = tu) (hH : hIsHeap b = if f 0 = 3 then 1 else 0) (hj : j < 12) (hpc : ∀ Q' : Int32 → HS → Prop, Q' (paceF f) (hLot y j f, t) → wp_X2_pace (nI j) (hLot y j f, t) Q') (h : Q (if imst 10 (gHt f a tu) ≤ 42 then 0 else 1) (hLot (mU y 11 10 (y 11 10 + gBr f)) j (growF f a d tu), t)) : wp_X2_growHour (nI j) b (hLot y j f, t) Q := by
  unfold wp_X2_growHour
  rw [cl hj]
  have hv : vp_in (nI j) 12 := vl hj
  refine hpc _ ⟨hv, ?_⟩
  have a7 : (hLot y j f, t).1 5 j = f 7 := hLot_5
  rw [a7]
  refine jn1 (if f 7 < 8 then 0 else 1) ⟨hv, fun v6 e6 => ⟨hv, fun s7 e7 => ⟨hv, fun x8 e8 => ⟨hv, fun x9 e9 => ⟨hv, hv, fun s10 e10 => ⟨hv, hv, fun s11 e11 s12 e12 => ⟨hb, hb, fun v13 e13 => ?_⟩⟩⟩⟩⟩⟩⟩ (fun k' hk => ⟨fun c => ?_, fun c => ?_⟩)
  rotate_left
  · rw [if_pos c] at hk; exact hk
  · rw [if_neg c] at hk; exact hk
  rw [show (hLot y j f, t).1 3 j = f 5 from hLot_3, iMin_eq] at e6
  rw [e6, hU_3] at e7
  subst e7
  rw [show (hLot y j (upd f 5 (ilst 100 (f 5 + paceF f))), t).1 0 j = f 2 from (hLot_0 (f := upd f 5 (ilst 100 (f 5 + paceF f)))).trans (pk_un (by decide))] at e8 e9 e10
  rw [e8, e9, i_ss, hU_0] at e10
  subst e10
  rw [show ∀ g : Nat → Int32, (hLot y j g, t).1 1 j = g 3 from fun g => hLot_1, pk_un (by decide), pk_un (by decide), e9, hU_1] at e11
  subst e11
  rw [hU_s (by decide), show ∀ g : Nat → Int32, (hLot y j g, t).1 11 10 = y 11 10 from fun g => hLot_b (by decide), e8] at e12
  subst e12
  rw [(hAir_l (t' := t)).1, (hAir_l (t' := t)).2.1, hA, hDw, iMax_eq] at e13
  have e14 : v13 = gDry a d := e13
  subst e14
  rw [show ∀ (y' : MS) (g : Nat → Int32), (hLot y' j g, t).1 2 j = g 4 from fun y' g => hLot_2, pk_un (by decide), pk_un (by decide), pk_un (by decide)]
  refine jn1 (gWet f a d) ⟨hv, fun s17 e17 => ?_⟩ (fun k' hk => ⟨fun c => ⟨hv, fun v34 e34 => ?_⟩, fun c => ⟨hv, ?_⟩⟩)
  rotate_left
  · unfold gWet at hk
    rw [if_neg (fun q => c ((gDry_0 a d).1 q))] at hk
    rw [e34, iMax_eq]
    exact hk
  · unfold gWet at hk
    rw [if_pos ((gDry_0 a d).2 c)] at hk
    exact hk
  rw [hU_2] at e17
  subst e17
  refine jn1 (if f 7 < 8 then 0 else 1) ⟨hb, ?_⟩ (fun k' hk => ⟨fun c => ?_, fun c => ?_⟩)
  rotate_left
  · by_cases q : f 7 < 8
    · rw [if_pos q] at hk; exact hk
    · rw [if_neg q] at c; exact absurd c (by decide)
  · by_cases q : f 7 < 8
    · rw [if_pos q] at c; exact absurd rfl c
    · rw [if_neg q] at hk; exact hk
  rw [hH]
  refine jn1 (if f 0 = 3 then 1 else 0) (fun x24 e24 => ⟨hv, hb, hb, fun v25 e25 => ⟨hv, fun s26 e26 => ⟨hb, ?_⟩⟩⟩) (fun k' hk => ⟨fun c => ?_, fun c => ?_⟩)
  rotate_left
  · by_cases q : f 0 = 3
    · rw [if_pos q] at c; exact absurd c (by decide)
    · rw [if_neg q] at hk; exact hk
  · by_cases q : f 0 = 3
    · rw [if_pos q] at hk; exact hk
    · rw [if_neg q] at c; exact absurd rfl c
  rw [(hAir_l (t' := t)).1, (hAir_l (t' := t)).2.2, hA, hT, show ∀ (y' : MS) (g : Nat → Int32), (hLot y' j g, t).1 4 j = g 6 from fun y' g => hLot_4, pk_un (by decide), pk_un (by decide), pk_un (by decide), pk_un (by decide), iMax_eq, e24] at e25
  have e27 : v25 = imst 10 (gHt f a tu) := by
    rw [e25]
    unfold gHt
    rw [Int32.add_assoc (f 6 + paceF f), Int32.add_assoc (f 6), ← Int32.add_assoc (paceF f)]
  rw [e27, hU_4] at e26
  subst e26
  rw [(hAir_l (t' := t)).2.2, hT]
  rw [show ∀ (y' : MS) (g : Nat → Int32), (hLot y' j g, t).1 5 j = g 7 from fun y' g => hLot_5, pk_un (by decide), pk_un (by decide), pk_un (by decide), pk_un (by decide), pk_un (by decide)]
  refine jn1 (gFe f tu) ⟨hv, fun s30 e30 => ⟨hv, ?_⟩⟩ (fun k' hk => ⟨fun c => ⟨hv, fun v32 e32 => ?_⟩, fun c => ⟨hv, hb, fun v33 e33 => ?_⟩⟩)
  rotate_left
  · unfold gFe at hk
    rw [if_pos c] at hk
    rw [e32, iMin_eq]
    exact hk
  · unfold gFe at hk
    rw [if_neg c] at hk
    rw [e33, iMax_eq]
    exact hk
  rw [hU_5] at e30
  subst e30
  rw [show ∀ (y' : MS) (g : Nat → Int32), (hLot y' j g, t).1 4 j = g 6 from fun y' g => hLot_4, pk_un (by decide), pk_us]
  refine ⟨fun c => ?_, fun c => ?_⟩
  · rw [if_pos c] at h; exact h
  · rw [if_neg c] at h; exact h
/-- an hour in the kiln -/
theorem x2_kilnHour {x : Int32} {Q : HS → Prop} (hj : j < 12) (hk : ∀ Q' : Int32 → HS → Prop, Q' x (hLot y j f, t) → wp_X2_kilnHeat (hLot y j f, t) Q') (h : Q (hLot (mU y 11 0 (y 11 0 ||| glV f x j)) j (dryF f x), t)) : wp_X2_kilnHour (nI j) (hLot y j f, t) Q := by
  unfold wp_X2_kilnHour
  rw [cl hj]
  have hv : vp_in (nI j) 12 := vl hj
  refine hk _ ?_
  rw [show (hLot y j f, t).1 2 j = f 4 from hLot_2]
  refine jn1 (glV f x j) (fun s6 e6 => ⟨hv, fun s7 e7 => ⟨hv, fun v8 e8 => ⟨hv, fun s9 e9 => ?_⟩⟩⟩) (fun k' hk => ⟨fun c => ?_, fun c => ⟨hv, fun c2 => ?_, fun c2 => ?_⟩⟩)
  · rw [hU_s (by decide), show (hLot y j f, t).1 11 0 = y 11 0 from hLot_b (by decide)] at e6
    subst e6
    rw [hU_4] at e7
    subst e7
    rw [show ∀ (y' : MS) (g : Nat → Int32), (hLot y' j g, t).1 2 j = g 4 from fun y' g => hLot_2, pk_un (by decide), iMax_eq] at e8
    rw [e8, hU_2] at e9
    rw [e9]
    have e10 : hLot (mU y 11 0 (y 11 0 ||| glV f x j)) j (upd (upd f 6 x) 4 (imst 3 (f 4 - x / 20))) = hLot (mU y 11 0 (y 11 0 ||| glV f x j)) j (dryF f x) := by
      funext b i
      unfold hLot dryF
      simp [upd]
    rw [e10]
    exact h
  · unfold glV at hk
    rw [if_pos c] at hk; exact hk
  · unfold glV at hk
    rw [if_neg c, if_pos c2] at hk; exact hk
  · unfold glV at hk
    rw [if_neg c, if_neg c2] at hk; exact hk
/-- out of the drum -/
def lvD (y : MS) (z : Zz) (j : Nat) : MS := if ofz z j 0 = 2 then mU y 7 (ofz z j 1).toNatClampNeg (-1) else y
theorem x2_bring {s : HS} {g : Nat → Int32} {p : Int32} {Q : HS → Prop} (hD : ED s.1 z n) (hl : LJ (ofz z j)) (h12 : n ≤ 12) (hj : j < n) (hE : E1 s.1 g j) (hc : 12 ≤ s.2.2) (hL : s.2.1.length ≤ 12) (h : Q (hLot (lvD s.1 z j) j (upd g 0 p), (100 * s.1 11 2 + 12 * p + nI j) :: s.2.1.take 11, s.2.2 - 12)) : wp_X2_bring (nI j) p s Q := by
  unfold wp_X2_bring
  have fin : ∀ y1 : MS, y1 = lvD s.1 z j → (vp_in (nI j) 12 ∧ ∀ s2 : HS, s2 = hU (y1, s.2) 6 (nI j).toNatClampNeg p → (wp_X2_note p (nI j) s2 (fun s3 => (Q s3)))) := by
    intro y1 e1
    refine ⟨vl (by omega), fun s2 e2 => ?_⟩
    rw [cl (by omega)] at e2
    have e3 : y1 = hLot y1 j g := by
      refine (hLot_self ?_).symm
      rw [e1]
      unfold lvD
      split
      · obtain ⟨q6, q0, q1, q2, q3, q4, q5⟩ := hE
        exact ⟨(congrFun (m_un (by decide)) _).trans q6, (congrFun (m_un (by decide)) _).trans q0, (congrFun (m_un (by decide)) _).trans q1, (congrFun (m_un (by decide)) _).trans q2, (congrFun (m_un (by decide)) _).trans q3, (congrFun (m_un (by decide)) _).trans q4, (congrFun (m_un (by decide)) _).trans q5⟩
      · exact hE
    rw [e3, hU_6] at e2
    subst e2
    unfold wp_X2_note hNote
    refine ⟨hc, hL, ?_⟩
    have e4 : hLot y1 j (upd g 0 p) 11 2 = s.1 11 2 := by
      rw [hLot_b (by decide), e1]
      unfold lvD
      split
      · exact congrFun (m_un (by decide)) _
      · rfl
    show Q (hLot y1 j (upd g 0 p), (100 * hLot y1 j (upd g 0 p) 11 2 + 12 * p + nI j) :: s.2.1.take 11, s.2.2 - 12)
    rw [e4, e1]
    exact h
  unfold wp_X2_leaveDrum
  refine x2_drumOf hD hl hj ⟨fun c => ?_, fun c => ?_⟩
  · have c2 : ¬ ofz z j 0 = 2 := fun q => by
      obtain ⟨d, hd, e⟩ := hl.1 q
      rw [e] at c
      exact m1_ne (by omega) c.symm
    exact fin s.1 (by unfold lvD; rw [if_neg c2])
  · have c2 : ofz z j 0 = 2 := Classical.byContradiction fun q => c (hl.2 q)
    obtain ⟨d, hd, e⟩ := hl.1 c2
    rw [e, cd hd]
    refine ⟨vd hd, hd, fun s4 e4 => ?_⟩
    have e5 : s4 = (mU s.1 7 d (-1), s.2) := e4
    subst e5
    exact fin _ (by unfold lvD; rw [if_pos c2, e, cd hd])
theorem lvD_n {b : Nat} (h : b ≠ 7) : lvD y z j b = y b := by
  unfold lvD
  split
  · exact m_un h
  · rfl
theorem lvD_1 (hD : ED y z n) (hl : LJ (ofz z j)) (h12 : n ≤ 12) (hj : j < n) : (∀ d, d < 4 → lvD y z j 7 d ≠ nI j) ∧ (∀ d k, d < 4 → k < n → k ≠ j → (lvD y z j 7 d = nI k ↔ y 7 d = nI k)) ∧ ∀ d, d < 4 → lvD y z j 7 d = -1 ∨ ∃ k, k < n ∧ lvD y z j 7 d = nI k := by
  obtain ⟨h1, h2⟩ := hD
  unfold lvD
  by_cases c : ofz z j 0 = 2
  · rw [if_pos c]
    obtain ⟨d0, hd0, e⟩ := hl.1 c
    rw [e, cd hd0]
    have h0 : y 7 d0 = nI j := (h1 d0 j hd0 hj).2 ⟨c, e⟩
    have a0 : mU y 7 d0 (-1) 7 d0 = -1 := by rw [m_u0, pk_us]
    have an : ∀ d, d ≠ d0 → mU y 7 d0 (-1) 7 d = y 7 d := fun d hn => by rw [m_u0, pk_un hn]
    refine ⟨fun d hd q => ?_, fun d k hd hk hn => ?_, fun d hd => ?_⟩
    · by_cases ed : d = d0
      · subst ed
        rw [a0] at q
        exact m1_ne (by omega) q
      · rw [an d ed] at q
        have := ((h1 d j hd hj).1 q).2
        rw [e] at this
        exact ed ((nI_eq (by omega) (by omega)).1 this).symm
    · by_cases ed : d = d0
      · subst ed
        rw [a0, h0]
        exact ⟨fun q => absurd q (m1_ne (by omega)), fun q => absurd ((nI_eq (by omega) (by omega)).1 q).symm hn⟩
      · rw [an d ed]
    · by_cases ed : d = d0
      · subst ed
        exact Or.inl a0
      · rw [an d ed]
        exact h2 d hd
  · rw [if_neg c]
    exact ⟨fun d hd q => c ((h1 d j hd hj).1 q).1, fun d k _ _ _ => Iff.rfl, h2⟩
end HO
