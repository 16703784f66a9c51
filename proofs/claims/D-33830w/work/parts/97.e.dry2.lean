set_option maxRecDepth 100000
/-! PLAIN: hours until the kiln is dry, 2 -/
section DZ
variable {T T' x out n j q c d : Nat} {σ σ0 : OS} {μ μ' : MS} {z z' : Zz} {a b p p2 : Int32}
theorem CI.hourN {K : Int32 → OS → Prop} (h : CI σ0 q T c z n σ) (hN : σ.2.2.2.1 = 0) (hT : T + 1 < 2 ^ 30) (k : ∀ σ', CI σ0 q (T + 1) c (zHour z n).2 n σ' → σ'.2.2.2.1 = 0 → K (zHour z n).1 σ') : ∃ w : MS × List Int32, σ.2.1 q = some w ∧ wp_X2_hour (w.1, w.2, σ.2.2.1) (fun v s => ∀ σ' : OS, σ' = oHc σ q s → K v σ') := by
  obtain ⟨a1, a2, y, L, a3, a4, a5⟩ := id h
  exact ⟨(y, L), a3, x2_hour hT a4 a5 (fun s' g1 g2 σ' e => k σ' (by rw [e]; exact h.put g1 g2) (by rw [e]; rfl))⟩
theorem mwx_L {kx : Int32 → Int32 → MS → Prop} (hn : μ 0 7 = nI n) (h12 : n ≤ 12) (h : kx (wx (μ 0) n) (nI n) μ) : ∀ m F k, k + m = n → m < F → wp_X6_hoursToDry_L9 kx F (wx (μ 0) k) (nI k) μ := by
  intro m
  induction m with
  | zero =>
    intro F k e hF
    obtain ⟨F, rfl⟩ := fpos hF
    obtain rfl : k = n := by omega
    rw [wp_X6_hoursToDry_L9, zc7, hn]
    exact ⟨zv7, fun _ => h, fun c => absurd lp_out c⟩
  | succ m ih =>
    intro F k e hF
    obtain ⟨F, rfl⟩ := fpos hF
    rw [wp_X6_hoursToDry_L9, zc7, hn]
    have e1 := ih F (k + 1) (by omega) (by omega)
    rw [nI_succ, wx] at e1
    refine ⟨zv7, fun c => absurd c (lp_in (by omega) h12), fun _ => x6_of1 (w := 0) (by omega) (by decide) (jnI ⟨fun c => ?_, fun c => x6_of1 (w := 4) (by omega) (by decide) (x6_most ?_)⟩)⟩
    · rw [if_neg c] at e1; exact e1
    · rw [if_pos c] at e1; exact e1
theorem step_w {lo hi t k g : Nat} {w : Nat} (h3 : μ 0 3 = nI lo) (h4 : μ 0 4 = nI hi) (h2 : μ 0 2 = nI t) (hlo : 30 ≤ lo ∧ lo ≤ 60) (hhi : 60 ≤ hi ∧ hi ≤ 99) (ht : t + k + 2 < 2 ^ 31) (hw : w ≤ 48) : imst 3 (nI w - zkh (μ 0) (μ 0 2 + (nI k + 1)) / 20) = nI (max 3 (w - (if t + (k + 1) ≤ 10 then lo / 20 else hi / 20))) := by
  have e : μ 0 2 + (nI k + 1) = nI (t + (k + 1)) := by rw [h2, ← nI_succ, nI_add]
  unfold zkh
  rw [e, h3, h4]
  by_cases cc : t + (k + 1) ≤ 10
  · rw [if_pos (show nI (t + (k + 1)) ≤ (10 : Int32) from nI_le (a := t + (k + 1)) (b := 10) cc (by decide)), if_pos cc]
    exact step_tab w (by omega) lo (by omega) (by omega)
  · rw [if_neg (show ¬ nI (t + (k + 1)) ≤ (10 : Int32) from nI_ge (a := 10) (b := t + (k + 1)) (by omega) (by omega)), if_neg cc]
    exact step_tab w (by omega) hi (by omega) (by omega)
theorem mdry_L {kx : Int32 → Int32 → MS → Prop} {lo hi t : Nat} (h3 : μ 0 3 = nI lo) (h4 : μ 0 4 = nI hi) (h2 : μ 0 2 = nI t) (hlo : 30 ≤ lo ∧ lo ≤ 60) (hhi : 60 ≤ hi ∧ hi ≤ 99) (ht : t < 2 ^ 30) : ∀ f w k F, (k = 0 ∧ 1 ≤ f) ∨ (0 < k ∧ 4 < w) → w ≤ f + 3 → w ≤ 48 → k + f ≤ 60 → f + 1 < F → (∀ w', kx (nI w') (nI (dr t (lo / 20) (hi / 20) f w k)) μ) → wp_X6_hoursToDry_L59 kx F (nI w) (nI k) μ := by
  intro f
  induction f with
  | zero =>
    intro w k F c h _ _ _ _
    omega
  | succ f ih =>
    intro w k F c hwf hw hk hF hx
    obtain ⟨F, rfl⟩ := fpos hF
    have hs := step_w (μ := μ) (g := 0) (k := k) (w := w) h3 h4 h2 hlo hhi (by omega) hw
    rw [dr] at hx
    have cont : wp_X6_hoursToDry_L59 kx F (imst 3 (nI w - zkh (μ 0) (μ 0 2 + (nI k + 1)) / 20)) (nI k + 1) μ := by
      rw [hs, ← nI_succ]
      have hsl : 1 ≤ (if t + (k + 1) ≤ 10 then lo / 20 else hi / 20) := by split <;> omega
      revert hx hsl
      generalize (if t + (k + 1) ≤ 10 then lo / 20 else hi / 20) = s
      intro hx hsl
      by_cases c4 : max 3 (w - s) ≤ 4
      · rw [if_pos c4] at hx
        obtain ⟨F, rfl⟩ := fpos (show 0 < F by omega)
        rw [wp_X6_hoursToDry_L59]
        exact ⟨fun q => absurd q (nI_ne0 (by omega) (by omega)), fun _ => ⟨fun _ => hx _, fun q => absurd (nI_le (a := max 3 (w - s)) (b := 4) c4 (by decide)) q⟩⟩
      · rw [if_neg c4] at hx
        exact ih _ (k + 1) F (Or.inr ⟨by omega, by omega⟩) (by omega) (by omega) (by omega) (by omega) hx
    rw [wp_X6_hoursToDry_L59, zc2]
    refine ⟨fun _ => ⟨zv2, x6_kilnHeat (x6_most cont)⟩, fun q => ⟨fun q2 => ?_, fun _ => ⟨zv2, x6_kilnHeat (x6_most cont)⟩⟩⟩
    rcases c with ⟨r, -⟩ | ⟨-, r⟩
    · exact absurd (by rw [r]; rfl) q
    · exact lp_x w (b := 4) r (by omega) q2
/-! the component's ways -/
theorem cwx_L {kx : Int32 → Int32 → Prop} {hA : Nat} {y : MS} {L : List Int32} (hF : oF σ x 0 0 (.ref hA)) (hH : σ.2.1 hA = some (y, L)) (hn : y 11 1 = nI n) (hE : EL y z n) (h12 : n ≤ 12) (h : kx (wx z n) (nI n)) : ∀ m F k, k + m = n → m < F → wp_X1_dryByFormula_L4 kx σ x F (wx z k) (nI k) := by
  intro m
  induction m with
  | zero =>
    intro F k e hF'
    obtain ⟨F, rfl⟩ := fpos hF'
    obtain rfl : k = n := by omega
    rw [wp_X1_dryByFormula_L4]
    refine ⟨hA, hF, (y, L), hH, fun _ => h, fun c => ?_⟩
    exact absurd (show (y, L).1 11 1 ≤ nI k by rw [show (y, L).1 11 1 = nI k from hn]; exact lp_out) c
  | succ m ih =>
    intro F k e hF'
    obtain ⟨F, rfl⟩ := fpos hF'
    have e1 := ih F (k + 1) (by omega) (by omega)
    rw [nI_succ, wx] at e1
    rw [wp_X1_dryByFormula_L4, cl (by omega)]
    refine ⟨hA, hF, (y, L), hH, fun c => ?_, fun _ => ⟨hA, hF, (y, L), hH, (y, L), hH, vl (by omega), jnI ?_⟩⟩
    · exact absurd (show nI n ≤ nI k by rw [← hn]; exact c) (lp_in (by omega) h12)
    have e6 : (y, L).1 6 k = ofz z k 0 := (hE k (by omega)).1
    have e2 : (y, L).1 2 k = ofz z k 4 := (hE k (by omega)).2.2.2.1
    rw [e6]
    refine ⟨fun c => ?_, fun c => ⟨hA, hF, (y, L), hH, (y, L), hH, vl (by omega), fun v32 e32 => ?_⟩⟩
    · rw [if_neg c] at e1; exact e1
    · rw [if_pos c] at e1
      rw [e2] at e32
      rw [e32, iMax_eq]
      exact e1
theorem v8_eq {t : Nat} (ht : t < 2 ^ 30) : iMax 0 (10 - nI t) = nI (10 - t) := by
  by_cases c : t ≤ 10
  · have : ∀ t, t < 11 → iMax 0 (10 - nI t) = nI (10 - t) := by decide +kernel
    exact this t (by omega)
  · have e0 : 10 - t = 0 := by omega
    rw [e0]
    unfold iMax
    refine if_neg (fun q => ?_)
    rw [Int32.lt_iff_toInt_lt, Int32.toInt_sub, nI_toInt (by omega)] at q
    have e10 : (10 : Int32).toInt = 10 := by decide
    have e0 : (0 : Int32).toInt = 0 := by decide
    rw [e10, e0, Int.bmod_eq_of_le (by omega) (by omega)] at q
    omega
theorem x1_hoursFor {a b : Int32} {Q : Int32 → Prop} (hb : ¬ b = 0) (h : Q (hfV a b)) : wp_X1_hoursFor a b Q := by
  unfold wp_X1_hoursFor
  unfold hfV at h
  refine ⟨fun c => ⟨hb, ?_⟩, fun c => ?_⟩
  · rw [if_pos c] at h; exact h
  · rw [if_neg c] at h; exact h
theorem x1_dryByFormula {hA t lo hi w : Nat} {y : MS} {L : List Int32} {Q : Int32 → OS → Prop} (hF : oF σ x 0 0 (.ref hA)) (hH : σ.2.1 hA = some (y, L)) (h1 : RH T y L z n) (h2 : z 2 = nI t) (h3 : z 3 = nI lo) (h4 : z 4 = nI hi) (hlo : 30 ≤ lo ∧ lo ≤ 60) (hhi : 60 ≤ hi ∧ hi ≤ 99) (ht : t < 2 ^ 30) (hw : wx z n = nI w) (w3 : 3 ≤ w) (w48 : w ≤ 48) (hQ : Q (nI (dr t (lo / 20) (hi / 20) 50 w 0)) σ) : wp_X1_dryByFormula x σ Q := by
  unfold wp_X1_dryByFormula
  have a4 : (y, L).1 11 4 = nI t := h1.1.2.2.1.trans h2
  have a5 : (y, L).1 11 5 = nI lo := h1.1.2.2.2.1.trans h3
  have a6 : (y, L).1 11 6 = nI hi := h1.1.2.2.2.2.1.trans h4
  have nlo : ¬ nI (lo / 20) = 0 := nI_ne0 (by omega) (by omega)
  have nhi : ¬ nI (hi / 20) = 0 := nI_ne0 (by omega) (by omega)
  refine jnI (cwx_L (kx := _) hF hH h1.lots h1.2.1 h1.zOK.2.1 ?_ n mF 0 (by omega) (by have := h1.zOK.2.1; unfold mF; omega))
  refine ⟨hA, hF, (y, L), hH, fun v8 e8 => ⟨hA, hF, (y, L), hH, ?_⟩⟩
  rw [a4, v8_eq ht] at e8
  rw [a5, div_tab lo (by omega)]
  refine x1_hoursFor nlo (fun v12 e12 => ⟨hA, hF, (y, L), hH, fun x15 e15 => ⟨hA, hF, (y, L), hH, ?_⟩⟩)
  rw [a6, div_tab hi (by omega)]
  refine x1_hoursFor nhi (fun v19 e19 => ?_)
  rw [a5, div_tab lo (by omega)] at e15
  have e20 : v19 = fiV (nI w) (nI (10 - t)) (nI (lo / 20)) (nI (hi / 20)) := by
    rw [e19, e15, e12, e8, hw]
    rfl
  rw [e20, fi_tab (by omega) w3 (by omega) (by omega) (by omega) (by omega) (by omega)]
  have e21 : dr (10 - (10 - t)) (lo / 20) (hi / 20) 50 w 0 = dr t (lo / 20) (hi / 20) 50 w 0 := by
    by_cases c : t ≤ 10
    · rw [show 10 - (10 - t) = t by omega]
    · rw [show 10 - (10 - t) = 10 by omega, dr_cap (L := t) (by omega)]
  rw [e21]
  exact hQ
theorem msk_ne {z0 : Zz} (h12 : n ≤ 12) (hj : j < n) (h4 : ofz z0 j 0 = 4) (h5 : ofz z j 0 ≠ 5) : ¬ (zmsk z 5 n &&& zmsk z0 4 n) = zmsk z0 4 n := by
  intro e
  have h1 : bt (zmsk z 5 n &&& zmsk z0 4 n) j = bt (zmsk z0 4 n) j := by rw [e]
  rw [b_and, zmsk_bt z0 4 (by omega) n h12, zmsk_bt z 5 (by omega) n h12] at h1
  simp [hj, h4, h5] at h1
theorem msk_eq {z0 : Zz} (h12 : n ≤ 12) (h : ∀ j, j < n → ofz z0 j 0 = 4 → ofz z j 0 = 5) : (zmsk z 5 n &&& zmsk z0 4 n) = zmsk z0 4 n := by
  refine b_ext (fun i hi => ?_)
  rw [b_and, zmsk_bt z0 4 hi n h12, zmsk_bt z 5 hi n h12]
  by_cases c : i < n ∧ ofz z0 i 0 = 4
  · have := h i c.1 c.2
    simp [c, this]
  · simp [c]
theorem play_L {kx : Int32 → OS → Prop} {z0 : Zz} {lo hi t : Nat} (h12 : n ≤ 12) (h3 : z0 3 = nI lo) (h4 : z0 4 = nI hi) (hlo : 30 ≤ lo ∧ lo ≤ 60) (hhi : 60 ≤ hi ∧ hi ≤ 99) (ht : t < 2 ^ 30) (hT : T + 300 < 2 ^ 30) : ∀ f w k F σ z, (k = 0 ∧ 1 ≤ f) ∨ 4 < w → w ≤ f + 3 → k + f ≤ 60 → f + 1 < F → DK z0 z n t k w → CI σ0 q (T + k) c z n σ → σ.2.2.2.1 = 0 → (∀ σ' T' z', CI σ0 q T' c z' n σ' → kx (nI (dr t (lo / 20) (hi / 20) f w k)) σ') → wp_X1_dryByPlaying_L25 kx q (zmsk z0 4 n) F (nI k) σ := by
  intro f
  induction f with
  | zero =>
    intro w k F σ z c h _ _ hD
    have := hD.2.2.2.2.2.2.1
    omega
  | succ f ih =>
    intro w k F σ z cc hwf hkf hF hD hC hN hx
    obtain ⟨F, rfl⟩ := fpos hF
    obtain ⟨a1, a2, y, L, a3, a4, a5⟩ := id hC
    obtain ⟨jm, hjm, m1, m2⟩ := hD.2.2.2.2.2.1.1
    rw [wp_X1_dryByPlaying_L25]
    refine ⟨(y, L), a3, x2_set (s := (y, L, σ.2.2.1)) a4.1.lots a4.1.2.1 h12 (fun σ19 e19 => ?_)⟩
    rw [oHc_same (w := (y, L)) hN a3] at e19
    rw [e19]
    refine ⟨fun e => absurd e (msk_ne h12 hjm ((hD.1 jm hjm).1 m1) (by rw [m1]; decide)), fun _ => hC.hourN hN (by omega) (fun σ' hI hN' => ?_)⟩
    obtain ⟨b1, b2⟩ := hD.hour (lo := lo) (hi := hi) h12 (by omega) h3 h4 hlo hhi
    rw [dr] at hx
    have hsl : 1 ≤ (if t + (k + 1) ≤ 10 then lo / 20 else hi / 20) := by split <;> omega
    revert hx hsl b1 b2
    generalize (if t + (k + 1) ≤ 10 then lo / 20 else hi / 20) = s
    intro hx b1 b2 hsl
    by_cases c4 : max 3 (w - s) ≤ 4
    · rw [if_pos c4] at hx
      have h5 := b1 c4
      obtain ⟨F, rfl⟩ := fpos (show 0 < F by omega)
      obtain ⟨c1, c2, y', L', c3, c4', c5⟩ := id hI
      rw [← nI_succ, wp_X1_dryByPlaying_L25]
      refine ⟨(y', L'), c3, x2_set (s := (y', L', σ'.2.2.1)) c4'.1.lots c4'.1.2.1 h12 (fun σ19 e19 => ⟨fun _ => ?_, fun e => absurd (msk_eq h12 h5) e⟩)⟩
      have hI2 := hI.put (s := (y', L', σ'.2.2.1)) c4' c5
      have e20 : σ19 = oHc σ' q (y', L', σ'.2.2.1) := e19
      rw [← e20] at hI2
      exact hx σ19 _ _ hI2
    · rw [if_neg c4] at hx
      have hD' := b2 c4
      rw [← nI_succ]
      exact ih (max 3 (w - s)) (k + 1) F σ' _ (Or.inr (by omega)) (by omega) (by omega) (by omega) hD' hI hN' hx
theorem msk4_0 (h12 : n ≤ 12) (h : ∀ j, j < n → ofz z j 0 ≠ 4) : zmsk z 4 n = 0 := by
  rw [zmsk_0 z 4 h12, zcnt_N, (cntN_0 z 4 n).2 h]
  decide
theorem msk4_n (h12 : n ≤ 12) (h : ∃ j, j < n ∧ ofz z j 0 = 4) : ¬ zmsk z 4 n = 0 := fun e => cnt_litk h h12 ((zmsk_0 z 4 h12).1 e)
theorem sim_hoursToDry (hR : RO T x out σ.1 σ.2.1 μ) (hκ : σ.2.2.1 = 5000) (hN : σ.2.2.2.1 = 0) (hT : T + 300 < 2 ^ 30) : SimN T x out (wp_X1_hoursToDry x p σ) (wp_X6_hoursToDry p μ) := by
  obtain ⟨hA, b1, b2, b3, y, L, n, hX, hH, h1, h2⟩ := hR.fields
  have hF : oF σ x 0 0 (.ref hA) := ⟨_, hX, rfl⟩
  have hC : oC σ x 0 := ⟨_, hX⟩
  have h12 := h1.zOK.2.1
  have h7 := h1.zOK.1
  have hz : (mU μ 5 3 0) 0 = μ 0 := mU53 (by decide)
  obtain ⟨-, hl, v01, ⟨t, ht, e2⟩, z12, ⟨⟨l1, l2⟩, l3, l4⟩, -⟩ := id h1.2.2.2.2.2.2
  obtain ⟨lo, lo1, e3⟩ := to_nI (x := μ 0 3) (n := 60) (by omega) (by omega)
  obtain ⟨hi, hi1, e4⟩ := to_nI (x := μ 0 4) (n := 99) (by omega) (by omega)
  rw [e3, nI_toInt (by omega)] at l1
  rw [e4, nI_toInt (by omega)] at l3
  obtain ⟨w, w48, ew, wall, wc⟩ := wx_ok (z := μ 0) (n := n) hl n (Nat.le_refl _)
  have hRO : RO T x out σ.1 σ.2.1 (mU μ 5 3 0) := hR.thr 0
  rcases wc with ⟨rfl, wn⟩ | ⟨w3, jm, hjm, m1, m2⟩
  · refine ⟨-1, mU μ 5 3 0, fun Q hQ => ?_, fun Q hQ => ?_⟩
    · unfold wp_X1_hoursToDry
      refine ⟨hA, hF, (y, L), hH, x2_set (s := (y, L, σ.2.2.1)) h1.lots h1.2.1 h12 (fun σ4 d4 => ?_)⟩
      rw [oHc_same (w := (y, L)) hN hH] at d4
      rw [d4]
      exact ⟨fun d => absurd (msk4_0 h12 wn) d, fun _ => hQ σ hRO⟩
    · unfold wp_X6_hoursToDry
      intro σ1 d1
      rw [d1]
      have e := mwx_L (μ := mU μ 5 3 0) (n := n) (kx := fun (x6 : Int32) (x7 : Int32) (σ8 : MS) => (((¬ x6 = 0) → (jn (fun (x14 : Int32) (x15 : Int32) (σ16 : MS) => (Q x15 σ16)) (fun kx13 => wp_X6_hoursToDry_L59 kx13 mF x6 0 σ8))) ∧ ((x6 = 0) → (Q ((-1)) σ8)))) (by rw [hz]; exact h7) h12 (by rw [hz, ew]; exact ⟨fun d => absurd rfl d, fun _ => hQ⟩) n mF 0 (by omega) (by unfold mF; omega)
      exact e
  · have hm := msk4_n h12 ⟨jm, hjm, m1⟩
    refine ⟨nI (dr t (lo / 20) (hi / 20) 50 w 0), mU μ 5 3 0, fun Q hQ => ?_, fun Q hQ => ?_⟩
    · unfold wp_X1_hoursToDry
      refine ⟨hA, hF, (y, L), hH, x2_set (s := (y, L, σ.2.2.1)) h1.lots h1.2.1 h12 (fun σ4 d4 => ?_)⟩
      rw [oHc_same (w := (y, L)) hN hH] at d4
      rw [d4]
      refine ⟨fun _ => ⟨fun _ => ⟨hC, ?_⟩, fun _ => ⟨hC, ?_⟩⟩, fun d => absurd d hm⟩
      · unfold wp_X1_dryByPlaying
        refine CI.begin (T := T) (c := 0) (z := μ 0) (n := n) ⟨b1, b2, b3, hX⟩ hH h1 h2 (by omega) (fun q σ5 hI _ hN5 => ?_)
        obtain ⟨a1, a2, y5, L5, a3, a4, a5⟩ := id hI
        refine ⟨(y5, L5), a3, fun σ6 d6 => ?_⟩
        have g1 : RK T 0 (hU (y5, L5, σ5.2.2.1) 11 3 1) (upd (μ 0) 1 1) n := by
          obtain ⟨f1, f2, f3, f4, f5, f6, f7, f8, f9, f10, f11⟩ := id a4.1.1
          refine RK.scal (y' := (hU (y5, L5, σ5.2.2.1) 11 3 1).1) a4 ⟨f1, rfl, f3, f4, f5, f6, f7, f8, f9, f10, f11⟩ (fun b i hb => show mU y5 11 3 1 b i = y5 b i from mU_at (by omega)) (show mU y5 11 3 1 11 0 = y5 11 0 from mU_at (by omega)) (fun i hi => pk_un (by omega)) (fun i hi => pk_un (by omega)) (Or.inr pk_us) ⟨t, ht, (pk_un (by decide)).trans e2⟩ (fun q => ?_)
          rw [pk_us] at q
          exact absurd q (by decide)
        have of1 : ∀ j v, ofz (upd (μ 0) 1 1) j v = ofz (μ 0) j v := fun j v => ofz_sc (by decide)
        have hI6 : CI σ q T 0 (upd (μ 0) 1 1) n σ6 := by
          rw [d6]
          exact hI.put g1 (fun _ => ⟨jm, hjm, (of1 jm 0).trans m1⟩)
        have hN6 : σ6.2.2.2.1 = 0 := by rw [d6]; rfl
        obtain ⟨a1', a2', y6, L6, a3', a4', a5'⟩ := id hI6
        refine ⟨(y6, L6), a3', x2_set (s := (y6, L6, σ6.2.2.1)) a4'.1.lots a4'.1.2.1 h12 (fun σ10 d10 => ?_)⟩
        rw [oHc_same (w := (y6, L6)) hN6 a3'] at d10
        rw [d10]
        refine jnI (play_L (T := T) (c := 0) (σ0 := σ) (t := t) (lo := lo) (hi := hi) (z0 := upd (μ 0) 1 1) h12 ((pk_un (by decide)).trans e3) ((pk_un (by decide)).trans e4) (by omega) (by omega) (by omega) hT 50 w 0 mF σ6 (upd (μ 0) 1 1) (Or.inl ⟨rfl, by decide⟩) (by omega) (by omega) (by unfold mF; omega) ⟨fun j _ => Iff.rfl, pk_us, (pk_un (by decide)).trans e2, rfl, rfl, ⟨⟨jm, hjm, (of1 jm 0).trans m1, (of1 jm 4).trans m2⟩, fun j hj c4 => ?_⟩, w3, w48⟩ hI6 hN6 (fun σ' T' z' hI' => ?_))
        · rw [of1] at c4 ⊢
          exact wall j hj c4
        · exact hQ σ' (hI'.thr hR)
      · exact x1_dryByFormula (T := T) (t := t) (lo := lo) (hi := hi) (w := w) (n := n) hF hH h1 e2 e3 e4 (by omega) (by omega) (by omega) ew w3 w48 (hQ σ hRO)
    · unfold wp_X6_hoursToDry
      intro σ1 d1
      rw [d1]
      have e := mwx_L (μ := mU μ 5 3 0) (n := n) (kx := fun (x6 : Int32) (x7 : Int32) (σ8 : MS) => (((¬ x6 = 0) → (jn (fun (x14 : Int32) (x15 : Int32) (σ16 : MS) => (Q x15 σ16)) (fun kx13 => wp_X6_hoursToDry_L59 kx13 mF x6 0 σ8))) ∧ ((x6 = 0) → (Q ((-1)) σ8)))) (by rw [hz]; exact h7) h12 ?_ n mF 0 (by omega) (by unfold mF; omega)
      · exact e
      · rw [hz, ew]
        refine ⟨fun _ => jnI (mdry_L (lo := lo) (hi := hi) (t := t) (by rw [hz]; exact e3) (by rw [hz]; exact e4) (by rw [hz]; exact e2) (by omega) (by omega) (by omega) 50 w 0 mF (Or.inl ⟨rfl, by decide⟩) (by omega) w48 (by omega) (by unfold mF; omega) (fun w' => hQ)), fun d => absurd d (nI_ne0 (by omega) (by omega))⟩
end DZ
