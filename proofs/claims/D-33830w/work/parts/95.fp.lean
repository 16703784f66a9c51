set_option maxRecDepth 100000
/-! PLAIN: a quotient of ints by a count is a number -/
section FQ
theorem f_t : FP.Core.b64.tails = 4503599627370496 := by decide +kernel
theorem f_e : FP.Core.b64.exps = 2048 := by decide +kernel
theorem f_qmin : FP.Core.b64.qmin = -1074 := by decide +kernel
theorem f_qmax : FP.Core.b64.qmax = 971 := by decide +kernel
theorem f_p : FP.Core.b64.p = 53 := rfl
theorem f_n {v : Nat} (h : v < 2 ^ 64) : (UInt64.ofNat v).toNat = v := Nat.mod_eq_of_lt h
theorem f_asm (s : Bool) (e t : Nat) : FP.Core.assemble FP.Core.b64 s e t = (s.toNat * 2048 + e) * 4503599627370496 + t := by
  unfold FP.Core.assemble
  rw [f_t, f_e]
theorem f_small {s : Bool} {e t : Nat} (he : e < 2047) (ht : t < 4503599627370496) : ∃ s' c' q', FP.Core.decode FP.Core.b64 (UInt64.ofNat (FP.Core.assemble FP.Core.b64 s e t)).toNat = .fin s' c' q' := by
  have hs : s.toNat ≤ 1 := by cases s <;> decide
  rw [f_asm, f_n (by omega)]
  unfold FP.Core.decode FP.Core.fieldE
  rw [f_t, f_e]
  have e1 : ((s.toNat * 2048 + e) * 4503599627370496 + t) / 4503599627370496 % 2048 = e := by omega
  rw [e1, if_neg (by omega)]
  split
  · exact ⟨_, _, _, rfl⟩
  · exact ⟨_, _, _, rfl⟩
theorem f_fin {s : Bool} {c : Nat} {q : Int} (hc : c < 9007199254740992) (hq : q ≤ 0) : ∃ s' c' q', FP.Core.decode FP.Core.b64 (UInt64.ofNat (FP.Core.encode FP.Core.b64 (.fin s c q))).toNat = .fin s' c' q' := by
  unfold FP.Core.encode
  dsimp only
  rw [f_t, f_qmin]
  by_cases h : c < 4503599627370496
  · rw [if_pos h]
    exact f_small (by decide) h
  · rw [if_neg h]
    exact f_small (by omega) (by omega)
theorem f_settle {s : Bool} {c : Nat} {q : Int} (hq : q ≤ -1) : ∃ c' q', c' < 9007199254740992 ∧ q' ≤ 0 ∧ FP.Core.settle FP.Core.b64 s c q = .fin s c' q' := by
  have hp : (2 : Nat) ^ FP.Core.b64.p = 9007199254740992 := by rw [f_p]
  unfold FP.Core.settle FP.Core.bound
  rw [f_qmax, f_t, hp]
  by_cases h : c < 9007199254740992
  · rw [if_pos h, if_pos (by omega)]
    exact ⟨c, q, h, by omega, rfl⟩
  · rw [if_neg h, if_pos (by omega)]
    exact ⟨_, _, by decide, by omega, rfl⟩
theorem i2d_fin (v : Int32) : ∃ s c q, FP.Core.decode FP.Core.b64 (FP.i2d v).toNat = .fin s c q := by
  have h1 := Int32.toInt_lt v
  have h2 := Int32.le_toInt v
  show ∃ s c q, FP.Core.decode FP.Core.b64 (UInt64.ofNat (FP.Core.encode FP.Core.b64 (FP.Core.roundRatio FP.Core.b64 (decide (v.toInt < 0)) v.toInt.natAbs 1 0))).toNat = .fin s c q
  unfold FP.Core.roundRatio
  by_cases h0 : v.toInt.natAbs = 0
  · rw [if_pos h0, f_qmin]
    exact f_fin (by decide) (by decide)
  · rw [if_neg h0]
    unfold FP.Core.roundAt
    have hl : v.toInt.natAbs.log2 < 32 := (Nat.log2_lt h0).2 (by omega)
    have hq : FP.Core.quantum FP.Core.b64 v.toInt.natAbs 1 0 ≤ -1 := by
      unfold FP.Core.quantum FP.Core.leading
      rw [f_qmin, f_p]
      dsimp only
      split <;> omega
    obtain ⟨c', q', g1, g2, g3⟩ := f_settle (s := decide (v.toInt < 0)) (c := FP.Core.nearest (FP.Core.unitsNum v.toInt.natAbs 0 (FP.Core.quantum FP.Core.b64 v.toInt.natAbs 1 0)) (FP.Core.unitsDen 1 0 (FP.Core.quantum FP.Core.b64 v.toInt.natAbs 1 0))) hq
    rw [g3]
    exact f_fin g1 g2
theorem f_mag {v : Nat} (h : v < 2 ^ 64) (h2 : v % 9223372036854775808 ≤ 9218868437227405312) : vf_n64 (UInt64.ofNat v) := by
  unfold vf_n64
  rw [UInt64.le_iff_toNat_le, UInt64.toNat_and, f_n h]
  have e : (0x7fffffffffffffff : UInt64).toNat = 2 ^ 63 - 1 := by decide
  rw [e, Nat.and_two_pow_sub_one_eq_mod]
  exact h2
theorem f_ratio {s : Bool} {c d : Nat} {e : Int} : vf_n64 (UInt64.ofNat (FP.Core.encode FP.Core.b64 (FP.Core.roundRatio FP.Core.b64 s c d e))) := by
  have hp : (2 : Nat) ^ FP.Core.b64.p = 9007199254740992 := by rw [f_p]
  have hs : s.toNat ≤ 1 := by cases s <;> decide
  have hinf : vf_n64 (UInt64.ofNat (FP.Core.encode FP.Core.b64 (.inf s))) := by
    unfold FP.Core.encode
    dsimp only
    rw [f_asm, f_e]
    exact f_mag (by omega) (by omega)
  have hfin : ∀ (c' : Nat) (q : Int), c' < 9007199254740992 → q ≤ 971 → vf_n64 (UInt64.ofNat (FP.Core.encode FP.Core.b64 (.fin s c' q))) := by
    intro c' q h1 h2
    unfold FP.Core.encode
    dsimp only
    rw [f_t, f_qmin]
    by_cases h : c' < 4503599627370496
    · rw [if_pos h, f_asm]
      exact f_mag (by omega) (by omega)
    · rw [if_neg h, f_asm]
      exact f_mag (by omega) (by omega)
  unfold FP.Core.roundRatio
  by_cases h0 : c = 0
  · rw [if_pos h0, f_qmin]
    exact hfin 0 (-1074) (by decide) (by decide)
  · rw [if_neg h0]
    unfold FP.Core.roundAt
    generalize FP.Core.nearest _ _ = k
    generalize FP.Core.quantum _ _ _ _ = q
    unfold FP.Core.settle FP.Core.bound
    rw [f_qmax, f_t, hp]
    by_cases h1 : k < 9007199254740992
    · rw [if_pos h1]
      by_cases h2 : q ≤ 971
      · rw [if_pos h2]
        exact hfin k q h1 h2
      · rw [if_neg h2]
        exact hinf
    · rw [if_neg h1]
      by_cases h2 : q + 1 ≤ 971
      · rw [if_pos h2]
        exact hfin _ _ (by decide) h2
      · rw [if_neg h2]
        exact hinf
def nzD : FP.Core.Datum → Bool
  | .fin _ c _ => c != 0
  | _ => false
theorem cnt_nz : ∀ k, k < 13 → 1 ≤ k → nzD (FP.Core.decode FP.Core.b64 (FP.i2d (nI k)).toNat) = true := by decide +kernel
theorem mean_ok (v : Int32) {k : Nat} (h1 : 1 ≤ k) (h2 : k < 13) : vf_n64 (FP.ddiv (FP.i2d v) (FP.i2d (nI k))) := by
  have hz := cnt_nz k h2 h1
  obtain ⟨s, c, q, e1⟩ := i2d_fin v
  obtain ⟨t, d, r, e2⟩ := i2d_fin (nI k)
  rw [e2] at hz
  have hd : ¬ d = 0 := fun z => by
    rw [z] at hz
    have h3 : nzD (FP.Core.Datum.fin t 0 r) = false := rfl
    rw [h3] at hz
    cases hz
  show vf_n64 (UInt64.ofNat (FP.Core.encode FP.Core.b64 (FP.Core.quotient FP.Core.b64 (FP.Core.decode FP.Core.b64 (FP.i2d v).toNat) (FP.Core.decode FP.Core.b64 (FP.i2d (nI k)).toNat))))
  rw [e1, e2]
  show vf_n64 (UInt64.ofNat (FP.Core.encode FP.Core.b64 (if d = 0 then (if c = 0 then .nan else .inf (s != t)) else FP.Core.roundRatio FP.Core.b64 (s != t) c d (q - r))))
  rw [if_neg hd]
  exact f_ratio
end FQ
