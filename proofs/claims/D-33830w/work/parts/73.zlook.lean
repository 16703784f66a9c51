set_option maxRecDepth 100000
/-! PLAIN: what the model's methods that only look tell -/
theorem jnI {α : Sort _} {k : α} {b : α → Prop} (h : b k) : jn k b := h
theorem fpos {F m : Nat} (h : m < F) : ∃ F', F = F' + 1 := ⟨F - 1, by omega⟩
def lotV (n : Nat) (p : Int32) : Int32 := if p < 0 then 0 else if nI n - 1 < p then 0 else 1
def drmV (p : Int32) : Int32 := if p < 0 then 0 else if 3 < p then 0 else 1
theorem lotV_or (n : Nat) (p : Int32) : lotV n p = 0 ∨ lotV n p = 1 := by
  unfold lotV
  split
  · exact Or.inl rfl
  · split
    · exact Or.inl rfl
    · exact Or.inr rfl
theorem lotV_j {n : Nat} {p : Int32} (hn : n ≤ 12) (h : ¬ lotV n p = 0) : ∃ j, j < n ∧ p = nI j := by
  unfold lotV at h
  split at h
  · exact absurd rfl h
  · next h1 =>
    split at h
    · exact absurd rfl h
    · next h2 =>
      obtain ⟨j, hj, rfl⟩ := nI_of h1
      refine ⟨j, ?_, rfl⟩
      rcases n with _ | n
      · exact absurd (show (nI 0 - 1 : Int32) < nI j by
          rw [Int32.lt_iff_toInt_lt, nI_toInt hj]
          have e : (nI 0 - 1 : Int32).toInt = -1 := by decide
          omega) h2
      · rw [nI_pred] at h2
        have := mt (fun z => nI_lt (a := n) (b := j) z hj) h2
        omega
theorem lotV_of {n j : Nat} (hn : n ≤ 12) (h : j < n) : lotV n (nI j) = 1 := by
  unfold lotV
  rw [if_neg (nI_pos (by omega))]
  obtain ⟨m, rfl⟩ : ∃ m, n = m + 1 := ⟨n - 1, by omega⟩
  rw [nI_pred, if_neg (nI_nlt (by omega) (by omega))]
theorem drmV_or (p : Int32) : drmV p = 0 ∨ drmV p = 1 := by
  unfold drmV
  split
  · exact Or.inl rfl
  · split
    · exact Or.inl rfl
    · exact Or.inr rfl
theorem drmV_j {p : Int32} (h : ¬ drmV p = 0) : ∃ d, d < 4 ∧ p = nI d := by
  unfold drmV at h
  split at h
  · exact absurd rfl h
  · next h1 =>
    split at h
    · exact absurd rfl h
    · next h2 =>
      obtain ⟨j, hj, rfl⟩ := nI_of h1
      refine ⟨j, ?_, rfl⟩
      have := mt (fun z => nI_lt (a := 3) (b := j) z hj) h2
      omega
theorem drmV_of {d : Nat} (h : d < 4) : drmV (nI d) = 1 := by
  have : ∀ d, d < 4 → drmV (nI d) = 1 := by decide +kernel
  exact this d h
theorem x6_isLot {p : Int32} {n : Nat} {σ : MS} {Q : Int32 → MS → Prop} (hn : σ 0 7 = nI n) (h : Q (lotV n p) σ) : wp_X6_isLot p σ Q := by
  unfold wp_X6_isLot
  rw [zc7, hn]
  exact ⟨zv7, x6_in ⟨lotV_or n p, h⟩⟩
theorem x6_isDrum {p : Int32} {Q : Int32 → Prop} (h : Q (drmV p)) : wp_X6_isDrum p Q := by
  unfold wp_X6_isDrum
  exact x6_in ⟨drmV_or p, h⟩
/-! counts and weights -/
def zcnt (z : Zz) (n : Nat) (p : Int32) : Int32 := l_sum (fun i => if ofz z i 0 = p then 1 else 0) n
def zwgt (z : Zz) (n : Nat) (p : Int32) : Int32 := l_sum (fun i => if ofz z i 0 = p then ofz z i 2 + ofz z i 3 else 0) n
theorem zcnt_pos {z : Zz} {k : Nat} {p : Int32} (c : ofz z k 0 = p) : zcnt z (k + 1) p = zcnt z k p + 1 := by
  show zcnt z k p + (if ofz z k 0 = p then 1 else 0) = _
  rw [if_pos c]
theorem zcnt_neg {z : Zz} {k : Nat} {p : Int32} (c : ¬ ofz z k 0 = p) : zcnt z (k + 1) p = zcnt z k p + 0 := by
  show zcnt z k p + (if ofz z k 0 = p then 1 else 0) = _
  rw [if_neg c]
theorem zwgt_pos {z : Zz} {k : Nat} {p : Int32} (c : ofz z k 0 = p) : zwgt z (k + 1) p = zwgt z k p + (ofz z k 2 + ofz z k 3) := by
  show zwgt z k p + (if ofz z k 0 = p then ofz z k 2 + ofz z k 3 else 0) = _
  rw [if_pos c]
theorem zwgt_neg {z : Zz} {k : Nat} {p : Int32} (c : ¬ ofz z k 0 = p) : zwgt z (k + 1) p = zwgt z k p + 0 := by
  show zwgt z k p + (if ofz z k 0 = p then ofz z k 2 + ofz z k 3 else 0) = _
  rw [if_neg c]
theorem x6_countIn_L {kx : Int32 → Int32 → MS → Prop} {p : Int32} {n : Nat} {σ : MS} (hn : σ 0 7 = nI n) (h12 : n ≤ 12) (h : kx (zcnt (σ 0) n p) (nI n) σ) : ∀ m F k, k + m = n → m < F → wp_X6_countIn_L4 kx p F (zcnt (σ 0) k p) (nI k) σ := by
  intro m
  induction m with
  | zero =>
    intro F k e hF
    obtain ⟨F, rfl⟩ := fpos hF
    obtain rfl : k = n := by omega
    rw [wp_X6_countIn_L4, zc7, hn]
    exact ⟨zv7, fun _ => h, fun c => absurd lp_out c⟩
  | succ m ih =>
    intro F k e hF
    obtain ⟨F, rfl⟩ := fpos hF
    rw [wp_X6_countIn_L4, zc7, hn]
    refine ⟨zv7, fun c => absurd c (lp_in (by omega) h12), fun _ => x6_of1 (w := 0) (by omega) (by decide) (jnI ?_)⟩
    have e1 := ih F (k + 1) (by omega) (by omega)
    rw [nI_succ] at e1
    refine ⟨fun c => ?_, fun c => ?_⟩
    · rw [zcnt_neg c] at e1; exact e1
    · rw [zcnt_pos c] at e1; exact e1
theorem x6_countIn {p : Int32} {n : Nat} {σ : MS} {Q : Int32 → MS → Prop} (hn : σ 0 7 = nI n) (h12 : n ≤ 12) (h : Q (zcnt (σ 0) n p) σ) : wp_X6_countIn p σ Q :=
  x6_countIn_L (kx := fun x _ s => Q x s) hn h12 h n mF 0 (by omega) (by unfold mF; omega)
theorem x6_weight {j : Nat} {σ : MS} {Q : Int32 → MS → Prop} (hj : j < 12) (h : Q (ofz (σ 0) j 2 + ofz (σ 0) j 3) σ) : wp_X6_weight (nI j) σ Q := by
  unfold wp_X6_weight
  exact x6_of1 (w := 2) hj (by decide) (x6_of1 (w := 3) hj (by decide) h)
theorem x6_weightIn_L {kx : Int32 → Int32 → MS → Prop} {p : Int32} {n : Nat} {σ : MS} (hn : σ 0 7 = nI n) (h12 : n ≤ 12) (h : kx (zwgt (σ 0) n p) (nI n) σ) : ∀ m F k, k + m = n → m < F → wp_X6_weightIn_L4 kx p F (zwgt (σ 0) k p) (nI k) σ := by
  intro m
  induction m with
  | zero =>
    intro F k e hF
    obtain ⟨F, rfl⟩ := fpos hF
    obtain rfl : k = n := by omega
    rw [wp_X6_weightIn_L4, zc7, hn]
    exact ⟨zv7, fun _ => h, fun c => absurd lp_out c⟩
  | succ m ih =>
    intro F k e hF
    obtain ⟨F, rfl⟩ := fpos hF
    rw [wp_X6_weightIn_L4, zc7, hn]
    refine ⟨zv7, fun c => absurd c (lp_in (by omega) h12), fun _ => x6_of1 (w := 0) (by omega) (by decide) (jnI ?_)⟩
    have e1 := ih F (k + 1) (by omega) (by omega)
    rw [nI_succ] at e1
    refine ⟨fun c => ?_, fun c => x6_weight (by omega) ?_⟩
    · rw [zwgt_neg c] at e1; exact e1
    · rw [zwgt_pos c] at e1; exact e1
theorem x6_weightIn {p : Int32} {n : Nat} {σ : MS} {Q : Int32 → MS → Prop} (hn : σ 0 7 = nI n) (h12 : n ≤ 12) (h : Q (zwgt (σ 0) n p) σ) : wp_X6_weightIn p σ Q :=
  x6_weightIn_L (kx := fun x _ s => Q x s) hn h12 h n mF 0 (by omega) (by unfold mF; omega)
/-! which lot is in a drum; the lots of a place as a mask -/
def zind (z : Zz) (d : Int32) : Nat → Int32
  | 0 => -1
  | n + 1 => if ofz z n 0 = 2 then (if ofz z n 1 = d then nI n else zind z d n) else zind z d n
def zmsk (z : Zz) (p : Int32) : Nat → Int32
  | 0 => 0
  | n + 1 => zmsk z p n ||| (if ofz z n 0 = p then 1 <<< (nI n &&& 31) else 0)
theorem x6_inDrum_L {kx : Int32 → Int32 → MS → Prop} {p : Int32} {n : Nat} {σ : MS} (hn : σ 0 7 = nI n) (h12 : n ≤ 12) (h : kx (zind (σ 0) p n) (nI n) σ) : ∀ m F k, k + m = n → m < F → wp_X6_inDrum_L4 kx p F (zind (σ 0) p k) (nI k) σ := by
  intro m
  induction m with
  | zero =>
    intro F k e hF
    obtain ⟨F, rfl⟩ := fpos hF
    obtain rfl : k = n := by omega
    rw [wp_X6_inDrum_L4, zc7, hn]
    exact ⟨zv7, fun _ => h, fun c => absurd lp_out c⟩
  | succ m ih =>
    intro F k e hF
    obtain ⟨F, rfl⟩ := fpos hF
    rw [wp_X6_inDrum_L4, zc7, hn]
    refine ⟨zv7, fun c => absurd c (lp_in (by omega) h12), fun _ => x6_of1 (w := 0) (by omega) (by decide) (jnI ?_)⟩
    have e1 := ih F (k + 1) (by omega) (by omega)
    rw [nI_succ] at e1
    refine ⟨fun c => ?_, fun c => x6_of1 (w := 1) (by omega) (by decide) ⟨fun c2 => ?_, fun c2 => ?_⟩⟩
    · rw [zind, if_neg c] at e1; exact e1
    · rw [zind, if_pos c, if_neg c2] at e1; exact e1
    · rw [zind, if_pos c, if_pos c2] at e1; exact e1
theorem x6_inDrum {p : Int32} {n : Nat} {σ : MS} {Q : Int32 → MS → Prop} (hn : σ 0 7 = nI n) (h12 : n ≤ 12) (h : Q (zind (σ 0) p n) σ) : wp_X6_inDrum p σ Q :=
  x6_inDrum_L (kx := fun x _ s => Q x s) hn h12 h n mF 0 (by omega) (by unfold mF; omega)
theorem x6_lotsIn_L {kx : Int32 → Int32 → MS → Prop} {p : Int32} {n : Nat} {σ : MS} (hn : σ 0 7 = nI n) (h12 : n ≤ 12) (h : kx (zmsk (σ 0) p n) (nI n) σ) : ∀ m F k, k + m = n → m < F → wp_X6_lotsIn_L21 kx p F (zmsk (σ 0) p k) (nI k) σ := by
  intro m
  induction m with
  | zero =>
    intro F k e hF
    obtain ⟨F, rfl⟩ := fpos hF
    obtain rfl : k = n := by omega
    rw [wp_X6_lotsIn_L21, zc7, hn]
    exact ⟨zv7, fun _ => h, fun c => absurd lp_out c⟩
  | succ m ih =>
    intro F k e hF
    obtain ⟨F, rfl⟩ := fpos hF
    rw [wp_X6_lotsIn_L21, zc7, hn]
    refine ⟨zv7, fun c => absurd c (lp_in (by omega) h12), fun _ => x6_of1 (w := 0) (by omega) (by decide) (jnI ?_)⟩
    have e1 := ih F (k + 1) (by omega) (by omega)
    rw [nI_succ] at e1
    refine ⟨fun c => ?_, fun c => ?_⟩
    · rw [zmsk, if_neg c] at e1; exact e1
    · rw [zmsk, if_pos c] at e1; exact e1
/-! reasons -/
def znoSteep (z : Zz) (n j : Nat) : Int32 := if ofz z j 0 = 0 then (if zcnt z n 1 = 2 then 2 else 0) else 1
theorem x6_noSteep {j n : Nat} {σ : MS} {Q : Int32 → MS → Prop} (hn : σ 0 7 = nI n) (h12 : n ≤ 12) (hj : j < n) (h : Q (znoSteep (σ 0) n j) σ) : wp_X6_noSteep (nI j) σ Q := by
  unfold wp_X6_noSteep
  unfold znoSteep at h
  refine x6_of1 (w := 0) (by omega) (by decide) ⟨fun c1 => x6_countIn hn h12 ⟨fun c2 => ?_, fun c2 => ?_⟩, fun c1 => ?_⟩
  · rw [if_pos c1, if_neg c2] at h; exact h
  · rw [if_pos c1, if_pos c2] at h; exact h
  · rw [if_neg c1] at h; exact h
theorem x6_grow1 {j : Nat} {σ : MS} {Q : Int32 → MS → Prop} (hj : j < 12) (h1 : ofz (σ 0) j 0 = 2 ∨ ofz (σ 0) j 0 = 3 → Q 1 σ) (h2 : ¬ (ofz (σ 0) j 0 = 2 ∨ ofz (σ 0) j 0 = 3) → Q 0 σ) : wp_X6_isGrowing (nI j) σ Q := by
  unfold wp_X6_isGrowing
  refine x6_of1 (w := 0) hj (by decide) ⟨fun c1 => h1 (Or.inl c1), fun c1 => x6_of1 (w := 0) hj (by decide) ⟨fun c2 => h2 (fun z => z.elim c1 c2), fun c2 => h1 (Or.inr c2)⟩⟩
def zdrumR (z : Zz) (n j : Nat) (d : Int32) : Int32 := if zind z d n = -1 then (if 30 ≤ ofz z j 4 then 0 else 3) else 2
def znoDrum (z : Zz) (n j : Nat) (d : Int32) : Int32 := if ofz z j 0 = 1 then zdrumR z n j d else if ofz z j 0 = 2 ∨ ofz z j 0 = 3 then zdrumR z n j d else 1
theorem x6_noDrum {j n : Nat} {d : Int32} {σ : MS} {Q : Int32 → MS → Prop} (hn : σ 0 7 = nI n) (h12 : n ≤ 12) (hj : j < n) (h : Q (znoDrum (σ 0) n j d) σ) : wp_X6_noDrum (nI j) d σ Q := by
  unfold wp_X6_noDrum
  unfold znoDrum at h
  refine x6_of1 (w := 0) (by omega) (by decide) ⟨fun c1 => ?_, fun c1 => ?_⟩
  · rw [if_pos c1] at h
    unfold zdrumR at h
    refine x6_inDrum hn h12 ⟨fun c2 => x6_of1 (w := 4) (by omega) (by decide) ⟨fun c3 => ?_, fun c3 => ?_⟩, fun c2 => ?_⟩
    · rw [if_pos c2, if_pos c3] at h; exact h
    · rw [if_pos c2, if_neg c3] at h; exact h
    · rw [if_neg c2] at h; exact h
  · rw [if_neg c1] at h
    refine x6_grow1 (by omega) (fun c2 => ⟨fun _ => ?_, fun z => absurd z (by decide)⟩) (fun c2 => ⟨fun z => absurd rfl z, fun _ => ?_⟩)
    · rw [if_pos c2] at h
      unfold zdrumR at h
      refine x6_inDrum hn h12 ⟨fun c2 => x6_of1 (w := 4) (by omega) (by decide) ⟨fun c3 => ?_, fun c3 => ?_⟩, fun c2 => ?_⟩
      · rw [if_pos c2, if_pos c3] at h; exact h
      · rw [if_pos c2, if_neg c3] at h; exact h
      · rw [if_neg c2] at h; exact h
    · rw [if_neg c2] at h; exact h
def znoLoad (z : Zz) (n j : Nat) : Int32 := if ofz z j 0 = 2 ∨ ofz z j 0 = 3 then (if z 1 = 1 then 2 else if zwgt z n 4 + (ofz z j 2 + ofz z j 3) ≤ 2000 then (if 40 ≤ ofz z j 5 then 0 else 4) else 3) else 1
theorem x6_noLoad {j n : Nat} {σ : MS} {Q : Int32 → MS → Prop} (hn : σ 0 7 = nI n) (h12 : n ≤ 12) (hj : j < n) (h : Q (znoLoad (σ 0) n j) σ) : wp_X6_noLoad (nI j) σ Q := by
  unfold wp_X6_noLoad
  unfold znoLoad at h
  refine x6_grow1 (by omega) (fun c2 => ⟨fun _ => ?_, fun z => absurd z (by decide)⟩) (fun c2 => ⟨fun z => absurd rfl z, fun _ => ?_⟩)
  · rw [if_pos c2] at h
    rw [zc1]
    refine ⟨zv1, fun c3 => x6_weightIn hn h12 (x6_weight (by omega) ⟨fun c4 => x6_of1 (w := 5) (by omega) (by decide) ⟨fun c5 => ?_, fun c5 => ?_⟩, fun c4 => ?_⟩), fun c3 => ?_⟩
    · rw [if_neg c3, if_pos c4, if_pos c5] at h; exact h
    · rw [if_neg c3, if_pos c4, if_neg c5] at h; exact h
    · rw [if_neg c3, if_neg c4] at h; exact h
    · rw [if_pos c3] at h; exact h
  · rw [if_neg c2] at h; exact h
theorem si (d w : Nat) (hd : d < 4) (hw : w < 3) : vp_in ((32 + (3 * nI d)) + nI w) 153 ∧ ((32 + (3 * nI d)) + nI w).toNatClampNeg = 32 + 3 * d + w := by
  have h1 : (3 : Int32) * nI d = nI (3 * d) := by
    show nI 3 * nI d = nI (3 * d)
    unfold nI
    rw [← Int32.ofNat_mul]
  have h2 : ((32 + (3 * nI d)) + nI w) = nI (32 + 3 * d + w) := by
    rw [h1]
    show (nI 32 + nI (3 * d)) + nI w = _
    rw [nI_add, nI_add]
  rw [h2]
  exact ⟨vp_inI (by omega) (by decide), nI_clamp (by omega)⟩
theorem si0 (d : Nat) (hd : d < 4) : vp_in (32 + (3 * nI d)) 153 ∧ (32 + (3 * nI d)).toNatClampNeg = 32 + 3 * d := by
  have h := si d 0 hd (by decide)
  have e : ((32 + (3 * nI d)) + nI 0) = 32 + 3 * nI d := by rw [nI_0, Int32.add_zero]
  rw [e] at h
  exact h
def zsetg (z : Zz) (j w : Nat) : Int32 := if ofz z j 0 = 2 then z (32 + 3 * (ofz z j 1).toNatClampNeg + w) else if w = 1 then 3 else 0
theorem x6_setting {j w : Nat} {σ : MS} {Q : Int32 → MS → Prop} (hj : j < 12) (hw : w < 3) (hd : ofz (σ 0) j 0 = 2 → ∃ d, d < 4 ∧ ofz (σ 0) j 1 = nI d) (h : Q (zsetg (σ 0) j w) σ) : wp_X6_setting (nI j) (nI w) σ Q := by
  unfold wp_X6_setting
  unfold zsetg at h
  refine x6_of1 (w := 0) hj (by decide) ⟨fun c1 => ⟨fun c2 => ?_, fun c2 => ?_⟩, fun c1 => x6_of1 (w := 1) hj (by decide) ?_⟩
  · rw [if_neg c1, if_neg (fun z => c2 (by rw [z]; rfl))] at h; exact h
  · rw [if_neg c1, if_pos ((nI_eq (a := w) (b := 1) (by omega) (by decide)).1 c2)] at h; exact h
  · rw [if_pos c1] at h
    obtain ⟨d, hd4, e⟩ := hd c1
    rw [e] at h ⊢
    obtain ⟨q1, q2⟩ := si d w hd4 hw
    rw [q2]
    rw [nI_clamp (by omega)] at h
    exact ⟨q1, h⟩
def znoSpray (z : Zz) (j : Nat) : Int32 := if ofz z j 0 = 2 ∨ ofz z j 0 = 3 then (if z 6 = 0 then 2 else if ofz z j 0 = 2 then (if zsetg z j 2 = 0 then 3 else 0) else 0) else 1
theorem x6_noSpray {j n : Nat} {σ : MS} {Q : Int32 → MS → Prop} (h12 : n ≤ 12) (hj : j < n) (hd : ofz (σ 0) j 0 = 2 → ∃ d, d < 4 ∧ ofz (σ 0) j 1 = nI d) (h : Q (znoSpray (σ 0) j) σ) : wp_X6_noSpray (nI j) σ Q := by
  unfold wp_X6_noSpray
  unfold znoSpray at h
  refine x6_grow1 (by omega) (fun c2 => ⟨fun _ => ?_, fun z => absurd z (by decide)⟩) (fun c2 => ⟨fun z => absurd rfl z, fun _ => ?_⟩)
  · rw [if_pos c2] at h
    rw [zc6]
    refine ⟨zv6, fun c3 => x6_of1 (w := 0) (by omega) (by decide) ⟨fun c4 => ?_, fun c4 => x6_setting (w := 2) (by omega) (by decide) hd ⟨fun c5 => ?_, fun c5 => ?_⟩⟩, fun c3 => ?_⟩
    · rw [if_neg c3, if_neg c4] at h; exact h
    · rw [if_neg c3, if_pos c4, if_neg c5] at h; exact h
    · rw [if_neg c3, if_pos c4, if_pos c5] at h; exact h
    · rw [if_pos c3] at h; exact h
  · rw [if_neg c2] at h; exact h
def zcanHeap (z : Zz) (j : Nat) : Int32 := if ofz z j 0 = 1 then 1 else if ofz z j 0 = 2 then 1 else 0
theorem x6_canHeap {j : Nat} {σ : MS} {Q : Int32 → MS → Prop} (hj : j < 12) (h : Q (zcanHeap (σ 0) j) σ) : wp_X6_canHeap (nI j) σ Q := by
  unfold wp_X6_canHeap
  unfold zcanHeap at h
  refine x6_of1 (w := 0) hj (by decide) ⟨fun c1 => ?_, fun c1 => x6_of1 (w := 0) hj (by decide) ⟨fun c2 => ?_, fun c2 => ?_⟩⟩
  · rw [if_pos c1] at h; exact h
  · rw [if_neg c1, if_neg c2] at h; exact h
  · rw [if_neg c1, if_pos c2] at h; exact h
def zcanLight (z : Zz) (n : Nat) : Int32 := if z 1 = 0 then (if zcnt z n 4 ≤ 0 then 0 else 1) else 0
theorem x6_canLight {n : Nat} {σ : MS} {Q : Int32 → MS → Prop} (hn : σ 0 7 = nI n) (h12 : n ≤ 12) (h : Q (zcanLight (σ 0) n) σ) : wp_X6_canLight σ Q := by
  unfold wp_X6_canLight
  unfold zcanLight at h
  rw [zc1]
  refine ⟨zv1, fun c1 => ?_, fun c1 => x6_countIn hn h12 ⟨fun c2 => ?_, fun c2 => ?_⟩⟩
  · rw [if_neg c1] at h; exact h
  · rw [if_pos c1, if_pos c2] at h; exact h
  · rw [if_pos c1, if_neg c2] at h; exact h
/-! pace -/
def paceF (f : Nat → Int32) : Int32 := if f 4 < 30 then 0 else if f 6 < 8 then 0 else if 34 < f 6 then 0 else if f 5 = 100 then 0 else if f 7 < 8 then (f 4 - 25) / 5 else ((f 4 - 25) / 5 + 1) / 2
theorem x6_pace {j : Nat} {σ : MS} {Q : Int32 → MS → Prop} (hj : j < 12) (h : Q (paceF (ofz (σ 0) j)) σ) : wp_X6_pace (nI j) σ Q := by
  unfold wp_X6_pace
  unfold paceF at h
  refine x6_of1 (w := 4) hj (by decide) ⟨fun c1 => ?_, fun c1 => x6_of1 (w := 6) hj (by decide) (x6_in ⟨fun c2 => ?_, fun c2 => x6_of1 (w := 5) hj (by decide) ⟨fun c3 => x6_of1 (w := 7) hj (by decide) ⟨fun c4 => ?_, fun c4 => ?_⟩, fun c3 => ?_⟩⟩)⟩
  · rw [if_pos c1] at h; exact h
  · rw [if_neg c1] at h
    by_cases d1 : ofz (σ 0) j 6 < 8
    · rw [if_pos d1] at h; exact h
    · rw [if_neg d1] at h c2
      by_cases d2 : 34 < ofz (σ 0) j 6
      · rw [if_pos d2] at h; exact h
      · rw [if_neg d2] at c2; exact absurd c2 (by decide)
  all_goals
    rw [if_neg c1] at h
    by_cases d1 : ofz (σ 0) j 6 < 8
    · rw [if_pos d1] at c2; exact absurd rfl c2
    · rw [if_neg d1] at h c2
      by_cases d2 : 34 < ofz (σ 0) j 6
      · rw [if_pos d2] at c2; exact absurd rfl c2
      · rw [if_neg d2] at h
        first
          | (rw [if_neg c3, if_pos c4] at h; exact h)
          | (rw [if_neg c3, if_neg c4] at h; exact h)
          | (rw [if_pos c3] at h; exact h)
/-! ripeness -/
def ripV (z : Zz) (i j : Nat) : Int32 := if 0 < ofz z i 5 - ofz z j 5 then 1 else if ofz z i 5 - ofz z j 5 = 0 then (if 0 < ofz z i 6 - ofz z j 6 then 1 else if ofz z i 6 - ofz z j 6 = 0 then (if nI j ≤ nI i then 0 else 1) else 0) else 0
theorem x6_isRiper {i j : Nat} {σ : MS} {Q : Int32 → MS → Prop} (hi : i < 12) (hj : j < 12) (h : Q (ripV (σ 0) i j) σ) : wp_X6_isRiper (nI i) (nI j) σ Q := by
  unfold wp_X6_isRiper
  unfold ripV at h
  refine x6_of1 (w := 5) hi (by decide) (x6_of1 (w := 5) hj (by decide) (x6_of1 (w := 6) hi (by decide) (x6_of1 (w := 6) hj (by decide) ?_)))
  refine ⟨fun c1 => ?_, fun c1 => ⟨fun c2 => ?_, fun c2 => ⟨fun c3 => ?_, fun c3 => ⟨fun c4 => ?_, fun c4 => ⟨fun c5 => ?_, fun c5 => ?_⟩⟩⟩⟩⟩
  · rw [if_pos c1] at h; exact h
  · rw [if_neg c1, if_neg c2] at h; exact h
  · rw [if_neg c1, if_pos c2, if_pos c3] at h; exact h
  · rw [if_neg c1, if_pos c2, if_neg c3, if_neg c4] at h; exact h
  · rw [if_neg c1, if_pos c2, if_neg c3, if_pos c4, if_pos c5] at h; exact h
  · rw [if_neg c1, if_pos c2, if_neg c3, if_pos c4, if_neg c5] at h; exact h
def aheadV (z : Zz) (j : Nat) : Nat → Int32
  | 0 => 0
  | n + 1 => aheadV z j n + (if ofz z n 0 = 2 ∨ ofz z n 0 = 3 then ripV z n j else 0)
def ripestV (z : Zz) (n : Nat) (p : Int32) : Nat → Int32
  | 0 => -1
  | k + 1 => if (ofz z k 0 = 2 ∨ ofz z k 0 = 3) ∧ aheadV z k n = p then nI k else ripestV z n p k
theorem ripV_or (z : Zz) (i j : Nat) : ripV z i j = 0 ∨ ripV z i j = 1 := by
  unfold ripV
  split
  · exact Or.inr rfl
  · split
    · split
      · exact Or.inr rfl
      · split
        · split
          · exact Or.inl rfl
          · exact Or.inr rfl
        · exact Or.inl rfl
    · exact Or.inl rfl
theorem x6_ripest_L40 {kx : Int32 → Int32 → MS → Prop} {j n : Nat} {σ : MS} (hn : σ 0 7 = nI n) (h12 : n ≤ 12) (hj : j < n) (h : kx (aheadV (σ 0) j n) (nI n) σ) : ∀ m F k, k + m = n → m < F → wp_X6_ripest_L40 kx (nI j) F (aheadV (σ 0) j k) (nI k) σ := by
  intro m
  induction m with
  | zero =>
    intro F k e hF
    obtain ⟨F, rfl⟩ := fpos hF
    obtain rfl : k = n := by omega
    rw [wp_X6_ripest_L40, zc7, hn]
    exact ⟨zv7, fun _ => h, fun c => absurd lp_out c⟩
  | succ m ih =>
    intro F k e hF
    obtain ⟨F, rfl⟩ := fpos hF
    rw [wp_X6_ripest_L40, zc7, hn]
    have e1 := ih F (k + 1) (by omega) (by omega)
    rw [nI_succ, aheadV] at e1
    refine ⟨zv7, fun c => absurd c (lp_in (by omega) h12), fun _ => x6_grow1 (by omega) (fun g => jnI ⟨fun z => absurd z (by decide), fun _ => x6_isRiper (by omega) (by omega) ⟨fun c => ?_, fun c => ?_⟩⟩) (fun g => jnI ⟨fun _ => ?_, fun z => absurd rfl z⟩)⟩
    · rw [if_pos g, c] at e1; exact e1
    · rw [if_pos g, (ripV_or _ _ _).resolve_left c] at e1; exact e1
    · rw [if_neg g] at e1; exact e1
theorem x6_ripest_L23 {kx : Int32 → Int32 → MS → Prop} {p : Int32} {n : Nat} {σ : MS} (hn : σ 0 7 = nI n) (h12 : n ≤ 12) (h : kx (ripestV (σ 0) n p n) (nI n) σ) : ∀ m F k, k + m = n → m < F → wp_X6_ripest_L23 kx p F (ripestV (σ 0) n p k) (nI k) σ := by
  intro m
  induction m with
  | zero =>
    intro F k e hF
    obtain ⟨F, rfl⟩ := fpos hF
    obtain rfl : k = n := by omega
    rw [wp_X6_ripest_L23, zc7, hn]
    exact ⟨zv7, fun _ => h, fun c => absurd lp_out c⟩
  | succ m ih =>
    intro F k e hF
    obtain ⟨F, rfl⟩ := fpos hF
    rw [wp_X6_ripest_L23, zc7, hn]
    have e1 := ih F (k + 1) (by omega) (by omega)
    rw [nI_succ, ripestV] at e1
    refine ⟨zv7, fun c => absurd c (lp_in (by omega) h12), fun _ => jnI ?_⟩
    refine x6_ripest_L40 (kx := _) hn h12 (by omega) ?_ n mF 0 (by omega) (by unfold mF; omega)
    refine x6_grow1 (by omega) (fun g => jnI ⟨fun z => absurd z (by decide), fun _ => ⟨fun c => ?_, fun c => ?_⟩⟩) (fun g => jnI ⟨fun _ => ?_, fun z => absurd rfl z⟩)
    · rw [if_neg (fun z => c z.2)] at e1; exact e1
    · rw [if_pos ⟨g, c⟩] at e1; exact e1
    · rw [if_neg (fun z => g z.1)] at e1; exact e1
