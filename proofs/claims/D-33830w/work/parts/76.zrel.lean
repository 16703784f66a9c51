set_option maxRecDepth 100000
/-! PLAIN: bits (a family of the kit's BITS, pasted), masks, the relation of house and model -/
def bt (x : Int32) (i : Nat) : Bool := x.toBitVec.getLsbD i
theorem b_ext {x y : Int32} (h : ∀ i, i < 32 → bt x i = bt y i) : x = y := Int32.toBitVec_inj.mp (BitVec.eq_of_getLsbD_eq (fun i hi => h i hi))
theorem b_or (x y : Int32) (i : Nat) : bt (x ||| y) i = (bt x i || bt y i) := by unfold bt; rw [Int32.toBitVec_or, BitVec.getLsbD_or]
theorem b_and (x y : Int32) (i : Nat) : bt (x &&& y) i = (bt x i && bt y i) := by unfold bt; rw [Int32.toBitVec_and, BitVec.getLsbD_and]
theorem b_0 (i : Nat) : bt 0 i = false := BitVec.getLsbD_zero
theorem s_l : ∀ n, n < 32 → ((nI n &&& 31).toBitVec.smod 32).toNat = n := by decide +kernel
theorem b_shl (n : Nat) (hn : n < 32) (x : Int32) {i : Nat} (hi : i < 32) : bt (x <<< (nI n &&& 31)) i = (decide (n ≤ i) && bt x (i - n)) := by
  unfold bt
  rw [Int32.toBitVec_shiftLeft]
  show (x.toBitVec <<< ((nI n &&& 31).toBitVec.smod 32).toNat).getLsbD i = _
  rw [s_l n hn, BitVec.getLsbD_shiftLeft]
  rcases Nat.lt_or_ge i n with h | h
  · simp [h, Nat.not_le.mpr h]
  · simp [hi, h, Nat.not_lt.mpr h]
theorem b_sshr (n : Nat) (hn : n < 32) (x : Int32) {i : Nat} (hi : i < 32) : bt (x >>> (nI n &&& 31)) i = if n + i < 32 then bt x (n + i) else bt x 31 := by
  unfold bt
  rw [Int32.toBitVec_shiftRight]
  show (x.toBitVec.sshiftRight ((nI n &&& 31).toBitVec.smod 32).toNat).getLsbD i = _
  rw [s_l n hn, BitVec.getLsbD_sshiftRight, BitVec.msb_eq_getLsbD_last]
  simp [hi]
theorem b_1 : ∀ i, i < 32 → bt 1 i = decide (i = 0) := by decide +kernel
theorem b_one {n i : Nat} (hn : n < 32) (hi : i < 32) : bt ((1 : Int32) <<< (nI n &&& 31)) i = decide (i = n) := by
  rw [b_shl n hn 1 hi, b_1 (i - n) (by omega)]
  by_cases h : i = n
  · subst h
    simp
  · by_cases h2 : n ≤ i
    · simp [h]
      omega
    · simp [h]
      omega
/-! masks -/
def cntN (z : Zz) (p : Int32) : Nat → Nat
  | 0 => 0
  | n + 1 => cntN z p n + (if ofz z n 0 = p then 1 else 0)
def mskN (z : Zz) (p : Int32) : Nat → Nat
  | 0 => 0
  | n + 1 => mskN z p n + (if ofz z n 0 = p then 2 ^ n else 0)
theorem cntN_le (z : Zz) (p : Int32) : ∀ n, cntN z p n ≤ n
  | 0 => Nat.le_refl _
  | n + 1 => by
    have := cntN_le z p n
    rw [cntN]
    split <;> omega
theorem mskN_lt (z : Zz) (p : Int32) : ∀ n, mskN z p n < 2 ^ n
  | 0 => (by decide : 0 < 2 ^ 0)
  | n + 1 => by
    have := mskN_lt z p n
    rw [mskN, Nat.pow_succ]
    split <;> omega
theorem zcnt_N (z : Zz) (p : Int32) : ∀ n, zcnt z n p = nI (cntN z p n)
  | 0 => rfl
  | n + 1 => by
    by_cases c : ofz z n 0 = p
    · rw [zcnt_pos c, cntN, if_pos c, nI_succ, zcnt_N z p n]
    · rw [zcnt_neg c, cntN, if_neg c, zcnt_N z p n, Int32.add_zero, Nat.add_zero]
theorem or_tab : ∀ k, k < 12 → ∀ a, a < 2 ^ k → nI a ||| (1 <<< (nI k &&& 31)) = nI (a + 2 ^ k) := by decide +kernel
theorem zmsk_N (z : Zz) (p : Int32) : ∀ n, n ≤ 12 → zmsk z p n = nI (mskN z p n)
  | 0, _ => rfl
  | n + 1, h => by
    rw [zmsk, mskN, zmsk_N z p n (by omega)]
    by_cases c : ofz z n 0 = p
    · rw [if_pos c, if_pos c, or_tab n (by omega) _ (mskN_lt z p n)]
    · rw [if_neg c, if_neg c, Int32.or_zero, Nat.add_zero]
def bcV (p1 : Int32) : Int32 :=
  let x1 := p1 - (((p1.toUInt32 >>> ((1 : Int32).toUInt32 &&& Int32.toUInt32 31)).toInt32) &&& 1431655765)
  let x2 := (x1 &&& 858993459) + (((x1.toUInt32 >>> ((2 : Int32).toUInt32 &&& Int32.toUInt32 31)).toInt32) &&& 858993459)
  let x3 := (x2 + ((x2.toUInt32 >>> ((4 : Int32).toUInt32 &&& Int32.toUInt32 31)).toInt32)) &&& 252645135
  let x4 := x3 + ((x3.toUInt32 >>> ((8 : Int32).toUInt32 &&& Int32.toUInt32 31)).toInt32)
  let x5 := x4 + ((x4.toUInt32 >>> ((16 : Int32).toUInt32 &&& Int32.toUInt32 31)).toInt32)
  x5 &&& 63
theorem j16_bitCount {p : Int32} {Q : Int32 → Prop} (h : Q (bcV p)) : wp_J16_bitCount p Q := by
  unfold wp_J16_bitCount
  intro x1 e1 x2 e2 x3 e3 x4 e4 x5 e5
  subst e1 e2 e3 e4 e5
  exact h
theorem bc_tab : ∀ k, k < 12 → ∀ a, a < 2 ^ k → bcV (nI (a + 2 ^ k)) = bcV (nI a) + 1 := by decide +kernel
theorem bc_msk (z : Zz) (p : Int32) : ∀ n, n ≤ 12 → bcV (nI (mskN z p n)) = nI (cntN z p n)
  | 0, _ => (by decide +kernel : bcV (nI 0) = nI 0)
  | n + 1, h => by
    rw [mskN, cntN]
    by_cases c : ofz z n 0 = p
    · rw [if_pos c, if_pos c, bc_tab n (by omega) _ (mskN_lt z p n), bc_msk z p n (by omega), nI_succ]
    · rw [if_neg c, if_neg c, Nat.add_zero, Nat.add_zero, bc_msk z p n (by omega)]
theorem bc_cnt (z : Zz) (p : Int32) {n : Nat} (h : n ≤ 12) : bcV (zmsk z p n) = zcnt z n p := by
  rw [zmsk_N z p n h, bc_msk z p n h, zcnt_N]
theorem msk_0 (z : Zz) (p : Int32) : ∀ n, mskN z p n = 0 ↔ cntN z p n = 0
  | 0 => Iff.rfl
  | n + 1 => by
    have h := msk_0 z p n
    have h2 : 0 < 2 ^ n := Nat.two_pow_pos n
    rw [mskN, cntN]
    split <;> omega
theorem zmsk_0 (z : Zz) (p : Int32) {n : Nat} (h : n ≤ 12) : zmsk z p n = 0 ↔ zcnt z n p ≤ 0 := by
  have h1 := mskN_lt z p n
  have h2 := cntN_le z p n
  have h3 : 2 ^ n ≤ 2 ^ 12 := Nat.pow_le_pow_right (by decide) h
  rw [zmsk_N z p n h, zcnt_N]
  show nI _ = nI 0 ↔ nI _ ≤ nI 0
  rw [nI_eq (by omega) (by omega), nI_leI (by omega) (by omega), msk_0]
  omega
theorem cntN_0 (z : Zz) (p : Int32) : ∀ n, cntN z p n = 0 ↔ ∀ j, j < n → ofz z j 0 ≠ p
  | 0 => ⟨fun _ j hj => absurd hj (Nat.not_lt_zero _), fun _ => rfl⟩
  | n + 1 => by
    have h := cntN_0 z p n
    rw [cntN]
    by_cases c : ofz z n 0 = p
    · rw [if_pos c]
      exact ⟨fun z => absurd z (by omega), fun z => absurd c (z n (by omega))⟩
    · rw [if_neg c, Nat.add_zero, h]
      refine ⟨fun a j hj => ?_, fun a j hj => a j (by omega)⟩
      by_cases e : j = n
      · subst e; exact c
      · exact a j (by omega)
theorem zmsk_bt (z : Zz) (p : Int32) {i : Nat} (hi : i < 32) : ∀ n, n ≤ 12 → bt (zmsk z p n) i = decide (i < n ∧ ofz z i 0 = p)
  | 0, _ => by
    rw [zmsk, b_0]
    simp
  | n + 1, h => by
    rw [zmsk, b_or, zmsk_bt z p hi n (by omega)]
    by_cases c : ofz z n 0 = p
    · rw [if_pos c, b_one (by omega) hi]
      by_cases e : i = n
      · subst e
        simp [c]
      · simp only [e, decide_false, Bool.or_false]
        congr 1
        apply propext
        constructor
        · rintro ⟨a, b⟩; exact ⟨by omega, b⟩
        · rintro ⟨a, b⟩; exact ⟨by omega, b⟩
    · rw [if_neg c, b_0, Bool.or_false]
      congr 1
      apply propext
      constructor
      · rintro ⟨a, b⟩; exact ⟨by omega, b⟩
      · rintro ⟨a, b⟩
        by_cases e : i = n
        · subst e; exact absurd b c
        · exact ⟨by omega, b⟩
/-! the relation -/
def E0 (y : MS) (z : Zz) : Prop := y 11 2 = z 0 ∧ y 11 3 = z 1 ∧ y 11 4 = z 2 ∧ y 11 5 = z 3 ∧ y 11 6 = z 4 ∧ y 11 7 = z 5 ∧ y 11 8 = z 6 ∧ y 11 1 = z 7 ∧ y 11 9 = z 8 ∧ y 11 10 = z 12 ∧ y 11 11 = z 13
def E1 (y : MS) (f : Nat → Int32) (j : Nat) : Prop := y 6 j = f 0 ∧ y 0 j = f 2 ∧ y 1 j = f 3 ∧ y 2 j = f 4 ∧ y 3 j = f 5 ∧ y 4 j = f 6 ∧ y 5 j = f 7
def EL (y : MS) (z : Zz) (n : Nat) : Prop := ∀ j, j < n → E1 y (ofz z j) j
def ES (y : MS) (z : Zz) : Prop := ∀ d, d < 4 → y 8 d = z (32 + 3 * d) ∧ y 9 d = z (32 + 3 * d + 1) ∧ y 10 d = z (32 + 3 * d + 2)
def EG (y : MS) (z : Zz) (n : Nat) : Prop := ∀ j, j < 12 → bt (y 11 0) j = decide (j < n ∧ ofz z j 8 = 1)
def ED (y : MS) (z : Zz) (n : Nat) : Prop := (∀ d j, d < 4 → j < n → (y 7 d = nI j ↔ ofz z j 0 = 2 ∧ ofz z j 1 = nI d)) ∧ ∀ d, d < 4 → y 7 d = -1 ∨ ∃ j, j < n ∧ y 7 d = nI j
def EB (L : List Int32) (z : Zz) : Prop := L.length ≤ 12 ∧ z 14 = nI L.length ∧ ∀ k, k < L.length → L[k]? = some (z (20 + k))
def LJ (f : Nat → Int32) : Prop := (f 0 = 2 → ∃ d, d < 4 ∧ f 1 = nI d) ∧ (f 0 ≠ 2 → f 1 = -1)
def LI (f : Nat → Int32) : Prop := (f 0 = 2 → ∃ d, d < 4 ∧ f 1 = nI d) ∧ (f 0 ≠ 2 → f 1 = -1) ∧ (3 ≤ (f 4).toInt ∧ (f 4).toInt ≤ 48) ∧ (f 0 = 0 ∨ f 0 = 1 → (12 ≤ (f 4).toInt ∧ (f 4).toInt ≤ 46) ∧ (f 6 = 14 ∨ f 6 = 15)) ∧ f 5 ≤ 100 ∧ (f 0 = 2 ∨ f 0 = 3 → 10 ≤ (f 6).toInt ∧ (f 6).toInt ≤ 42) ∧ (f 8 = 0 ∨ f 8 = 1)
theorem LI.lj {f : Nat → Int32} (h : LI f) : LJ f := ⟨h.1, h.2.1⟩
def sM (z : Zz) (w : Nat) (n : Nat) : Int32 := l_sum (fun j => if ofz z j 0 = 5 then ofz z j w else 0) n
def IV (z : Zz) (n T : Nat) : Prop := (n ≤ 12 ∧ z 7 = nI n) ∧ (∀ j, j < n → LI (ofz z j)) ∧ (z 1 = 0 ∨ z 1 = 1) ∧ (∃ t, t ≤ T ∧ z 2 = nI t) ∧ (z 1 = 0 → z 2 = 0) ∧ ((30 ≤ (z 3).toInt ∧ (z 3).toInt ≤ 60) ∧ 60 ≤ (z 4).toInt ∧ (z 4).toInt ≤ 99) ∧ (∀ i, 32 ≤ i → i < 44 → 0 ≤ (z i).toInt ∧ (z i).toInt ≤ 3) ∧ z 9 = sM z 2 n ∧ z 10 = sM z 3 n ∧ z 11 = zwgt z n 6
def RH (T : Nat) (y : MS) (L : List Int32) (z : Zz) (n : Nat) : Prop := E0 y z ∧ EL y z n ∧ ES y z ∧ EG y z n ∧ ED y z n ∧ EB L z ∧ IV z n T
def litk (z : Zz) (n : Nat) : Prop := z 1 = 1 → ∃ j, j < n ∧ ofz z j 0 = 4
def lvs (z : Zz) : Nat → Nat
  | 0 => 0
  | n + 1 => lvs z n + (if ofz z n 0 = 5 ∨ ofz z n 0 = 6 then 0 else 1)
theorem lvs_le (z : Zz) : ∀ n, lvs z n ≤ n
  | 0 => Nat.le_refl _
  | n + 1 => by
    have := lvs_le z n
    rw [lvs]
    split <;> omega
def RK (T c : Nat) (s : HS) (z : Zz) (n : Nat) : Prop := RH T s.1 s.2.1 z n ∧ 12 * lvs z n + c ≤ s.2.2
theorem RH.zOK {T : Nat} {y : MS} {L : List Int32} {z : Zz} {n : Nat} (h : RH T y L z n) : zOK z n := by
  obtain ⟨-, -, -, -, -, -, ⟨h12, h7⟩, hl, -⟩ := h
  exact ⟨h7, h12, fun j hj => (hl j hj).1⟩
theorem RH.lots {T : Nat} {y : MS} {L : List Int32} {z : Zz} {n : Nat} (h : RH T y L z n) : y 11 1 = nI n := h.1.2.2.2.2.2.2.2.1.trans h.zOK.1
theorem lvs_pos {z : Zz} {n j : Nat} (h : j < n) (h5 : ofz z j 0 ≠ 5) (h6 : ofz z j 0 ≠ 6) : 1 ≤ lvs z n := by
  induction n with
  | zero => omega
  | succ n ih =>
    rw [lvs]
    by_cases e : j = n
    · subst e
      rw [if_neg (fun z => z.elim h5 h6)]
      omega
    · have := ih (by omega)
      omega
theorem lvs_congr {z z' : Zz} : ∀ n, (∀ j, j < n → ofz z j 0 = ofz z' j 0) → lvs z n = lvs z' n
  | 0, _ => rfl
  | n + 1, h => by
    rw [lvs, lvs, lvs_congr n (fun j hj => h j (by omega)), h n (by omega)]
theorem lvs_one {z z' : Zz} {j : Nat} : ∀ n, j < n → (∀ i, i < n → i ≠ j → ofz z i 0 = ofz z' i 0) → lvs z n + (if ofz z' j 0 = 5 ∨ ofz z' j 0 = 6 then 0 else 1) = lvs z' n + (if ofz z j 0 = 5 ∨ ofz z j 0 = 6 then 0 else 1)
  | 0, h, _ => absurd h (Nat.not_lt_zero _)
  | n + 1, h, h1 => by
    rw [lvs, lvs]
    by_cases e : j = n
    · subst e
      rw [lvs_congr j (fun i hi => h1 i (by omega) (by omega))]
      omega
    · have h2 := lvs_one n (by omega) (fun i hi hn => h1 i (by omega) hn)
      rw [h1 n (by omega) (fun z => e z.symm)]
      omega
