set_option maxRecDepth 100000
/-! PLAIN: what the house's methods that only look tell, for a house related to an array -/
theorem vl {j : Nat} (h : j < 12) : vp_in (nI j) 12 := vp_in_nI h (by decide)
theorem cl {j : Nat} (h : j < 12) : (nI j).toNatClampNeg = j := nI_clamp (by omega)
theorem vd {d : Nat} (h : d < 4) : vp_in (nI d) 4 := vp_in_nI h (by decide)
theorem cd {d : Nat} (h : d < 4) : (nI d).toNatClampNeg = d := nI_clamp (by omega)
theorem x1_in {a b c : Int32} {Q : Int32 → Prop} (h : Q (if a < b then 0 else if c < a then 0 else 1)) : wp_X1_isWithin a b c Q := by
  unfold wp_X1_isWithin
  refine ⟨fun c1 => ?_, fun c1 => ⟨fun c2 => ?_, fun c2 => ?_⟩⟩
  · rw [if_pos c1] at h; exact h
  · rw [if_neg c1, if_pos c2] at h; exact h
  · rw [if_neg c1, if_neg c2] at h; exact h
theorem x1_isDrum {p : Int32} {Q : Int32 → Prop} (h : Q (drmV p)) : wp_X1_isDrum p Q := by
  unfold wp_X1_isDrum
  exact x1_in ⟨drmV_or p, h⟩
theorem x2_isLot {p : Int32} {n : Nat} {s : HS} {Q : Int32 → HS → Prop} (hn : s.1 11 1 = nI n) (h : Q (lotV n p) s) : wp_X2_isLot p s Q := by
  unfold wp_X2_isLot
  rw [hn]
  exact x1_in ⟨lotV_or n p, h⟩
section HL
variable {n j : Nat} {s : HS} {z : Zz} {Q : Int32 → HS → Prop}
theorem x2_weight (hE : EL s.1 z n) (h12 : n ≤ 12) (hj : j < n) (h : Q (ofz z j 2 + ofz z j 3) s) : wp_X2_weight (nI j) s Q := by
  unfold wp_X2_weight
  obtain ⟨e6, e0, e1, e2, e3, e4, e5⟩ := hE j hj
  rw [cl (by omega), e0, e1]
  exact ⟨vl (by omega), vl (by omega), h⟩
theorem x2_weightIn_L {kx : Int32 → Int32 → HS → Prop} {p : Int32} (hn : s.1 11 1 = nI n) (hE : EL s.1 z n) (h12 : n ≤ 12) (h : kx (zwgt z n p) (nI n) s) : ∀ m F k, k + m = n → m < F → wp_X2_weightIn_L4 kx p F (zwgt z k p) (nI k) s := by
  intro m
  induction m with
  | zero =>
    intro F k e hF
    obtain ⟨F, rfl⟩ := fpos hF
    obtain rfl : k = n := by omega
    rw [wp_X2_weightIn_L4, hn]
    exact ⟨fun _ => h, fun c => absurd lp_out c⟩
  | succ m ih =>
    intro F k e hF
    obtain ⟨F, rfl⟩ := fpos hF
    rw [wp_X2_weightIn_L4, hn]
    have e1 := ih F (k + 1) (by omega) (by omega)
    rw [nI_succ] at e1
    refine ⟨fun c => absurd c (lp_in (by omega) h12), fun _ => ⟨vl (by omega), jnI ?_⟩⟩
    rw [cl (by omega), (hE k (by omega)).1]
    refine ⟨fun c => ?_, fun c => x2_weight hE h12 (by omega) ?_⟩
    · rw [zwgt_neg c] at e1; exact e1
    · rw [zwgt_pos c] at e1; exact e1
theorem x2_weightIn {p : Int32} (hn : s.1 11 1 = nI n) (hE : EL s.1 z n) (h12 : n ≤ 12) (h : Q (zwgt z n p) s) : wp_X2_weightIn p s Q :=
  x2_weightIn_L (kx := fun x _ s => Q x s) hn hE h12 h n mF 0 (by omega) (by unfold mF; omega)
theorem x2_set_L {kx : Int32 → Int32 → Prop} {p : Int32} (hn : s.1 11 1 = nI n) (hE : EL s.1 z n) (h12 : n ≤ 12) (h : kx (zmsk z p n) (nI n)) : ∀ m F k, k + m = n → m < F → wp_X2_set_L4 kx s p F (zmsk z p k) (nI k) := by
  intro m
  induction m with
  | zero =>
    intro F k e hF
    obtain ⟨F, rfl⟩ := fpos hF
    obtain rfl : k = n := by omega
    rw [wp_X2_set_L4, hn]
    exact ⟨fun _ => h, fun c => absurd lp_out c⟩
  | succ m ih =>
    intro F k e hF
    obtain ⟨F, rfl⟩ := fpos hF
    rw [wp_X2_set_L4, hn]
    have e1 := ih F (k + 1) (by omega) (by omega)
    rw [nI_succ, zmsk] at e1
    refine ⟨fun c => absurd c (lp_in (by omega) h12), fun _ => ⟨vl (by omega), jnI ?_⟩⟩
    rw [cl (by omega), (hE k (by omega)).1]
    refine ⟨fun c => ?_, fun c => ?_⟩
    · rw [if_neg c] at e1; exact e1
    · rw [if_pos c] at e1; exact e1
theorem x2_set {p : Int32} (hn : s.1 11 1 = nI n) (hE : EL s.1 z n) (h12 : n ≤ 12) (h : Q (zmsk z p n) s) : wp_X2_set p s Q :=
  x2_set_L (kx := fun x _ => Q x s) hn hE h12 h n mF 0 (by omega) (by unfold mF; omega)
/-! which drum a lot is in -/
def drv (y : MS) (p : Int32) : Nat → Int32
  | 0 => -1
  | d + 1 => if y 7 d = p then nI d else drv y p d
theorem x2_drumOf_L {kx : Int32 → Int32 → Prop} {p : Int32} (h : kx (drv s.1 p 4) (nI 4)) : ∀ m F k, k + m = 4 → m < F → wp_X2_drumOf_L4 kx s p F (drv s.1 p k) (nI k) := by
  intro m
  induction m with
  | zero =>
    intro F k e hF
    obtain ⟨F, rfl⟩ := fpos hF
    obtain rfl : k = 4 := by omega
    rw [wp_X2_drumOf_L4]
    exact ⟨fun _ => h, fun c => absurd (lp_out : (4 : Int32) ≤ nI 4) c⟩
  | succ m ih =>
    intro F k e hF
    obtain ⟨F, rfl⟩ := fpos hF
    rw [wp_X2_drumOf_L4]
    have e1 := ih F (k + 1) (by omega) (by omega)
    rw [nI_succ, drv] at e1
    refine ⟨fun c => lp_x 4 (by omega) (by decide) c, fun _ => ⟨vd (by omega), ?_⟩⟩
    rw [cd (by omega)]
    refine ⟨by omega, jnI ⟨fun c => ?_, fun c => ?_⟩⟩
    · rw [if_neg c] at e1; exact e1
    · rw [if_pos c] at e1; exact e1
theorem drv_no {y : MS} {p : Int32} : ∀ k, (∀ d, d < k → y 7 d ≠ p) → drv y p k = -1
  | 0, _ => rfl
  | k + 1, h => by
    rw [drv, if_neg (h k (by omega)), drv_no k (fun d hd => h d (by omega))]
theorem drv_is {y : MS} {p : Int32} {d : Nat} (hd : y 7 d = p) : ∀ k, d < k → (∀ e, e < k → e ≠ d → y 7 e ≠ p) → drv y p k = nI d
  | 0, h, _ => absurd h (Nat.not_lt_zero _)
  | k + 1, h, h2 => by
    rw [drv]
    by_cases e : k = d
    · subst e
      rw [if_pos hd]
    · rw [if_neg (h2 k (by omega) e), drv_is hd k (by omega) (fun e he hn => h2 e (by omega) hn)]
theorem drv_eq {y : MS} (hD : ED y z n) (hl : LJ (ofz z j)) (hj : j < n) : drv y (nI j) 4 = ofz z j 1 := by
  obtain ⟨h1, h2⟩ := hD
  by_cases c : ofz z j 0 = 2
  · obtain ⟨d, hd, e⟩ := hl.1 c
    rw [e]
    refine drv_is ((h1 d j hd hj).2 ⟨c, e⟩) 4 hd (fun e' he' hne z' => ?_)
    have := ((h1 e' j he' hj).1 z').2
    rw [e] at this
    exact hne ((nI_eq (by omega) (by omega)).1 this).symm
  · rw [hl.2 c]
    exact drv_no 4 (fun d hd z' => c ((h1 d j hd hj).1 z').1)
theorem x2_drumOf (hD : ED s.1 z n) (hl : LJ (ofz z j)) (hj : j < n) (h : Q (ofz z j 1) s) : wp_X2_drumOf (nI j) s Q := by
  rw [← drv_eq hD hl hj] at h
  exact x2_drumOf_L (kx := fun x _ => Q x s) h 4 mF 0 (by omega) (by unfold mF; omega)
def bedV (z : Zz) (j : Nat) : Nat := if ofz z j 0 = 2 then 1 + (ofz z j 1).toNatClampNeg else 0
theorem bedV_lt (hl : LJ (ofz z j)) : bedV z j < 5 := by
  unfold bedV
  split
  · next c =>
    obtain ⟨d, hd, e⟩ := hl.1 c
    rw [e, cd hd]
    omega
  · decide
theorem x2_bed {Qb : Nat → HS → Prop} (hE : EL s.1 z n) (hD : ED s.1 z n) (hl : LJ (ofz z j)) (h12 : n ≤ 12) (hj : j < n) (h : Qb (bedV z j) s) : wp_X2_bed (nI j) s Qb := by
  unfold wp_X2_bed
  unfold bedV at h
  rw [cl (by omega), (hE j hj).1]
  refine ⟨vl (by omega), fun c => ?_, fun c => x2_drumOf hD hl hj ⟨?_, ?_⟩⟩
  · rw [if_neg c] at h; exact h
  · obtain ⟨d, hd, e⟩ := hl.1 c
    rw [e]
    exact vd hd
  · rw [if_pos c] at h; exact h
theorem bed_air (hS : ES s.1 z) (hl : LJ (ofz z j)) : hAir s (bedV z j) = zsetg z j 0 ∧ hDew s (bedV z j) = zsetg z j 1 ∧ hTurn s (bedV z j) = zsetg z j 2 := by
  unfold bedV zsetg
  by_cases c : ofz z j 0 = 2
  · obtain ⟨d, hd, e⟩ := hl.1 c
    obtain ⟨h1, h2, h3⟩ := hS d hd
    rw [if_pos c, if_pos c, if_pos c, if_pos c, e, cd hd]
    unfold hAir hDew hTurn
    rw [if_neg (by omega), if_neg (by omega), if_neg (by omega), show 1 + d - 1 = d by omega]
    exact ⟨h1, h2, h3⟩
  · rw [if_neg c, if_neg c, if_neg c, if_neg c]
    exact ⟨rfl, rfl, rfl⟩
theorem bed_heap : hIsHeap (bedV z j) = if ofz z j 0 = 2 then 0 else 1 := by
  unfold bedV hIsHeap
  by_cases c : ofz z j 0 = 2
  · rw [if_pos c, if_pos c, if_neg (by omega)]
  · rw [if_neg c, if_neg c, if_pos rfl]
theorem x2_grow1 (hE : EL s.1 z n) (h12 : n ≤ 12) (hj : j < n) (h1 : ofz z j 0 = 2 ∨ ofz z j 0 = 3 → Q 1 s) (h2 : ¬ (ofz z j 0 = 2 ∨ ofz z j 0 = 3) → Q 0 s) : wp_X2_isGrowing (nI j) s Q := by
  unfold wp_X2_isGrowing
  rw [cl (by omega), (hE j hj).1]
  exact ⟨vl (by omega), fun c => h1 (Or.inl c), fun c => ⟨vl (by omega), fun c2 => h2 (fun z => z.elim c c2), fun c2 => h1 (Or.inr c2)⟩⟩
theorem half0 : ((0 : Int32) + 1) / 2 = 0 := by decide
theorem x2_pace (hE : EL s.1 z n) (hl : LI (ofz z j)) (h12 : n ≤ 12) (hj : j < n) (h : Q (if ofz z j 0 = 2 ∨ ofz z j 0 = 3 then paceF (ofz z j) else 0) s) : wp_X2_pace (nI j) s Q := by
  unfold wp_X2_pace
  obtain ⟨e6, e0, e1, e2, e3, e4, e5⟩ := hE j hj
  rw [cl (by omega)]
  have hv : vp_in (nI j) 12 := vl (by omega)
  have hg : 100 ≤ ofz z j 5 ↔ ofz z j 5 = 100 := ⟨fun c => Int32.le_antisymm hl.2.2.2.2.1 c, fun c => by rw [c]; exact Int32.le_refl _⟩
  have fin : ∀ g : Int32, (g = 0 ∨ g = 1) → Q (if ofz z j 7 < 8 then (if g = 0 then 0 else (ofz z j 4 - 25) / 5) else ((if g = 0 then 0 else (ofz z j 4 - 25) / 5) + 1) / 2) s → jn (fun (x8 : Int32) => (vp_in (nI j) 12 ∧ (((ofz z j 7 < 8) → (Q x8 s)) ∧ ((¬ ofz z j 7 < 8) → (Q ((x8 + 1) / 2) s))))) (fun kj7 => (((g = 0) → (kj7 0)) ∧ ((¬ g = 0) → (vp_in (nI j) 12 ∧ (kj7 ((ofz z j 4 - 25) / 5)))))) := by
    intro g hgo hq
    refine jn1 (if g = 0 then 0 else (ofz z j 4 - 25) / 5) ⟨hv, fun c => ?_, fun c => ?_⟩ (fun k' hk => ⟨fun c => ?_, fun c => ⟨hv, ?_⟩⟩)
    · rw [if_pos c] at hq; exact hq
    · rw [if_neg c] at hq; exact hq
    · rw [if_pos c] at hk; exact hk
    · rw [if_neg c] at hk; exact hk
  have z0 : Q 0 s → Q (if ofz z j 7 < 8 then (if (0 : Int32) = 0 then 0 else (ofz z j 4 - 25) / 5) else ((if (0 : Int32) = 0 then 0 else (ofz z j 4 - 25) / 5) + 1) / 2) s := by
    intro hq
    rw [if_pos rfl, half0]
    split <;> exact hq
  have z1 : Q (if ofz z j 7 < 8 then (ofz z j 4 - 25) / 5 else ((ofz z j 4 - 25) / 5 + 1) / 2) s → Q (if ofz z j 7 < 8 then (if (1 : Int32) = 0 then 0 else (ofz z j 4 - 25) / 5) else ((if (1 : Int32) = 0 then 0 else (ofz z j 4 - 25) / 5) + 1) / 2) s := by
    intro hq
    rw [if_neg (show ¬ (1 : Int32) = 0 by decide)]
    exact hq
  refine x2_grow1 hE h12 hj (fun g => ?_) (fun g => ?_)
  rotate_left
  · rw [e2, e3, e4, e5]
    refine jnI ⟨fun _ => fin 0 (Or.inl rfl) (z0 ?_), fun c => absurd rfl c⟩
    rw [if_neg g] at h; exact h
  rw [e2, e3, e4, e5]
  refine jnI ⟨fun c => absurd c (by decide), fun _ => ⟨hv, fun c1 => fin 0 (Or.inl rfl) (z0 ?_), fun c1 => ⟨hv, x1_in ⟨fun c2 => fin 0 (Or.inl rfl) (z0 ?_), fun c2 => ⟨hv, fun c3 => fin 0 (Or.inl rfl) (z0 ?_), fun c3 => fin 1 (Or.inr rfl) (z1 ?_)⟩⟩⟩⟩⟩
  · rw [if_pos g] at h
    unfold paceF at h
    rw [if_pos c1] at h; exact h
  · rw [if_pos g] at h
    unfold paceF at h
    rw [if_neg c1] at h
    by_cases d1 : ofz z j 6 < 8
    · rw [if_pos d1] at h; exact h
    · rw [if_neg d1] at h c2
      by_cases d2 : 34 < ofz z j 6
      · rw [if_pos d2] at h; exact h
      · rw [if_neg d2] at c2; exact absurd c2 (by decide)
  · rw [if_pos g] at h
    unfold paceF at h
    rw [if_neg c1] at h
    by_cases d1 : ofz z j 6 < 8
    · rw [if_pos d1] at h; exact h
    · rw [if_neg d1] at h c2
      by_cases d2 : 34 < ofz z j 6
      · rw [if_pos d2] at h; exact h
      · rw [if_neg d2, if_pos (hg.1 c3)] at h; exact h
  · rw [if_pos g] at h
    unfold paceF at h
    rw [if_neg c1] at h
    by_cases d1 : ofz z j 6 < 8
    · rw [if_pos d1] at c2; exact absurd rfl c2
    · rw [if_neg d1] at h c2
      by_cases d2 : 34 < ofz z j 6
      · rw [if_pos d2] at c2; exact absurd rfl c2
      · rw [if_neg d2, if_neg (fun e => c3 (hg.2 e))] at h; exact h
/-! reasons -/
theorem x2_whyNotSteep (hn : s.1 11 1 = nI n) (hE : EL s.1 z n) (h12 : n ≤ 12) (hj : j < n) (h : Q (znoSteep z n j) s) : wp_X2_whyNotSteep (nI j) s Q := by
  unfold wp_X2_whyNotSteep
  unfold znoSteep at h
  rw [cl (by omega), (hE j hj).1]
  refine ⟨vl (by omega), fun c => x2_set hn hE h12 (j16_bitCount ?_), fun c => ?_⟩
  · rw [bc_cnt z 1 h12]
    rw [if_pos c] at h
    refine ⟨fun c2 => ?_, fun c2 => ?_⟩
    · rw [if_neg c2] at h; exact h
    · rw [if_pos c2] at h; exact h
  · rw [if_neg c] at h; exact h
/-- a drum's lot, by the model -/
theorem m1_ne {k : Nat} (h : k < 2 ^ 31) : (-1 : Int32) ≠ nI k := by
  intro e
  have h3 : (-1 : Int32).toInt = (nI k).toInt := by rw [e]
  rw [nI_toInt h] at h3
  have h4 : (-1 : Int32).toInt = -1 := by decide
  omega
theorem zind_eq {y : MS} {d : Nat} (hD : ED y z n) (h12 : n ≤ 12) (hd : d < 4) : zind z (nI d) n = y 7 d := by
  obtain ⟨h1, h2⟩ := hD
  rcases h2 d hd with e | ⟨j, hj, e⟩
  · rw [e]
    have hno : ∀ k, k ≤ n → zind z (nI d) k = -1 := by
      intro k
      induction k with
      | zero => intro _; rfl
      | succ k ih =>
        intro hk
        rw [zind]
        by_cases c : ofz z k 0 = 2
        · rw [if_pos c, if_neg, ih (by omega)]
          intro c2
          have h3 := (h1 d k hd (by omega)).2 ⟨c, c2⟩
          rw [e] at h3
          exact m1_ne (by omega) h3
        · rw [if_neg c, ih (by omega)]
    exact hno n (Nat.le_refl _)
  · rw [e]
    have hc := (h1 d j hd hj).1 e
    have hyes : ∀ k, k ≤ n → j < k → zind z (nI d) k = nI j := by
      intro k
      induction k with
      | zero => intro _ h; omega
      | succ k ih =>
        intro hk hjk
        rw [zind]
        by_cases ek : k = j
        · subst ek
          rw [if_pos hc.1, if_pos hc.2]
        · by_cases c : ofz z k 0 = 2
          · rw [if_pos c, if_neg, ih (by omega) (by omega)]
            intro c2
            have h3 := (h1 d k hd (by omega)).2 ⟨c, c2⟩
            rw [e] at h3
            exact ek ((nI_eq (by omega) (by omega)).1 h3).symm
          · rw [if_neg c, ih (by omega) (by omega)]
    exact hyes n (Nat.le_refl _) hj
theorem x2_whyNotDrum {d : Nat} (hE : EL s.1 z n) (hD : ED s.1 z n) (h12 : n ≤ 12) (hj : j < n) (hd : d < 4) (h : Q (znoDrum z n j (nI d)) s) : wp_X2_whyNotDrum (nI j) (nI d) s Q := by
  unfold wp_X2_whyNotDrum
  unfold znoDrum zdrumR at h
  rw [zind_eq hD h12 hd] at h
  obtain ⟨e6, e0, e1, e2, e3, e4, e5⟩ := hE j hj
  rw [cl (by omega), e6, e2, cd hd]
  refine ⟨vl (by omega), fun c => ⟨vd hd, hd, fun c2 => ⟨vl (by omega), fun c3 => ?_, fun c3 => ?_⟩, fun c2 => ?_⟩, fun c => x2_grow1 hE h12 hj (fun g => ⟨fun _ => ⟨vd hd, hd, fun c2 => ⟨vl (by omega), fun c3 => ?_, fun c3 => ?_⟩, fun c2 => ?_⟩, fun z => absurd z (by decide)⟩) (fun g => ⟨fun z => absurd rfl z, fun _ => ?_⟩)⟩
  · rw [if_pos c, if_pos c2, if_pos c3] at h; exact h
  · rw [if_pos c, if_pos c2, if_neg c3] at h; exact h
  · rw [if_pos c, if_neg c2] at h; exact h
  · rw [e2] at c3; rw [if_neg c, if_pos g, if_pos c2, if_pos c3] at h; exact h
  · rw [e2] at c3; rw [if_neg c, if_pos g, if_pos c2, if_neg c3] at h; exact h
  · rw [if_neg c, if_pos g, if_neg c2] at h; exact h
  · rw [if_neg c, if_neg g] at h; exact h
theorem x2_canHeap (hE : EL s.1 z n) (h12 : n ≤ 12) (hj : j < n) (h : Q (zcanHeap z j) s) : wp_X2_canHeap (nI j) s Q := by
  unfold wp_X2_canHeap
  unfold zcanHeap at h
  rw [cl (by omega), (hE j hj).1]
  refine ⟨vl (by omega), fun c => ?_, fun c => ⟨vl (by omega), fun c2 => ?_, fun c2 => ?_⟩⟩
  · rw [if_pos c] at h; exact h
  · rw [if_neg c, if_neg c2] at h; exact h
  · rw [if_neg c, if_pos c2] at h; exact h
theorem x2_whyNotLoad (hn : s.1 11 1 = nI n) (hE : EL s.1 z n) (h3 : s.1 11 3 = z 1) (h1 : z 1 = 0 ∨ z 1 = 1) (h12 : n ≤ 12) (hj : j < n) (h : Q (znoLoad z n j) s) : wp_X2_whyNotLoad (nI j) s Q := by
  unfold wp_X2_whyNotLoad
  unfold znoLoad at h
  refine x2_grow1 hE h12 hj (fun c2 => ⟨fun _ => ?_, fun z => absurd z (by decide)⟩) (fun c2 => ⟨fun z => absurd rfl z, fun _ => ?_⟩)
  · rw [if_pos c2] at h
    rw [h3]
    refine ⟨fun c3 => x2_weightIn hn hE h12 (x2_weight hE h12 hj ⟨fun c4 => ⟨vl (by omega), ?_⟩, fun c4 => ?_⟩), fun c3 => ?_⟩
    · rw [if_neg (by rw [c3]; decide), if_pos c4] at h
      obtain ⟨e6, e0, e1, e2, e3, e4, e5⟩ := hE j hj
      rw [cl (by omega), e3]
      refine ⟨fun c5 => ?_, fun c5 => ?_⟩
      · rw [if_pos c5] at h; exact h
      · rw [if_neg c5] at h; exact h
    · rw [if_neg (by rw [c3]; decide), if_neg c4] at h; exact h
    · rw [if_pos (h1.resolve_left c3)] at h; exact h
  · rw [if_neg c2] at h; exact h
theorem x2_whyNotSpray (hE : EL s.1 z n) (hD : ED s.1 z n) (hS : ES s.1 z) (hl : LI (ofz z j)) (h8 : s.1 11 8 = z 6) (h12 : n ≤ 12) (hj : j < n) (h : Q (znoSpray z j) s) : wp_X2_whyNotSpray (nI j) s Q := by
  unfold wp_X2_whyNotSpray
  unfold znoSpray at h
  refine x2_grow1 hE h12 hj (fun c2 => ⟨fun _ => ?_, fun z => absurd z (by decide)⟩) (fun c2 => ⟨fun z => absurd rfl z, fun _ => ?_⟩)
  · rw [if_pos c2] at h
    rw [h8, cl (by omega), (hE j hj).1]
    refine ⟨fun c3 => ⟨vl (by omega), fun c4 => ?_, fun c4 => x2_bed hE hD hl.lj h12 hj ⟨bedV_lt hl.lj, ?_⟩⟩, fun c3 => ?_⟩
    · rw [if_neg c3, if_neg c4] at h; exact h
    · rw [if_neg c3, if_pos c4] at h
      rw [(bed_air hS hl.lj).2.2]
      refine ⟨fun c5 => ?_, fun c5 => ?_⟩
      · rw [if_neg c5] at h; exact h
      · rw [if_pos c5] at h; exact h
    · rw [if_pos c3] at h; exact h
  · rw [if_neg c2] at h; exact h
theorem x2_canLight (hn : s.1 11 1 = nI n) (hE : EL s.1 z n) (h3 : s.1 11 3 = z 1) (h12 : n ≤ 12) (h : Q (zcanLight z n) s) : wp_X2_canLight s Q := by
  unfold wp_X2_canLight
  unfold zcanLight at h
  rw [h3]
  refine ⟨fun c => ?_, fun c => x2_set hn hE h12 ⟨fun c2 => ?_, fun c2 => ?_⟩⟩
  · rw [if_neg c] at h; exact h
  · rw [if_pos c, if_pos ((zmsk_0 z 4 h12).1 c2)] at h; exact h
  · rw [if_pos c, if_neg (fun e => c2 ((zmsk_0 z 4 h12).2 e))] at h; exact h
theorem x2_kilnHeat {T : Nat} (h0 : E0 s.1 z) (hv : IV z n T) (hT : T < 2 ^ 30) (h : Q (zkh z (z 2 + 1)) s) : wp_X2_kilnHeat s Q := by
  unfold wp_X2_kilnHeat
  unfold zkh at h
  obtain ⟨-, -, e4, e5, e6, -⟩ := h0
  obtain ⟨-, -, -, ⟨t, ht, e⟩, -⟩ := hv
  rw [e4, e5, e6]
  rw [e, ← nI_succ] at h
  rw [e]
  refine ⟨fun c => ?_, fun c => ?_⟩
  · have c' : 10 ≤ t := (nI_leI (a := 10) (b := t) (by decide) (by omega)).1 c
    rw [if_neg (show ¬ nI (t + 1) ≤ (10 : Int32) from nI_ge (a := 10) (b := t + 1) (by omega) (by omega))] at h
    exact h
  · have c' : ¬ 10 ≤ t := fun q => c (nI_le (a := 10) q (by omega))
    rw [if_pos (show nI (t + 1) ≤ (10 : Int32) from nI_le (a := t + 1) (b := 10) (by omega) (by decide))] at h
    exact h
end HL
