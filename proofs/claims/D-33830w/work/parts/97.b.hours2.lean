set_option maxRecDepth 100000
/-! PLAIN: hours until a lot is spoilt; the best air -/
section TS
variable {T T' x out n j q c : Nat} {σ σ0 : OS} {μ μ' : MS} {z z' : Zz} {a b p p2 : Int32}
def spC (z : Zz) (n j k : Nat) : Prop := ofz (Zk z n k) j 0 = 6 ∨ 240 ≤ k
def spM (z : Zz) (n j k : Nat) : Prop := 240 ≤ k ∨ ¬ (ofz (Zk z n k) j 0 = 2 ∨ ofz (Zk z n k) j 0 = 3)
theorem spoil_loop {kx : Int32 → OS → Prop} {kc : Nat} (hj : j < n) (hT : T + 300 < 2 ^ 30) (hs : spC z n j kc) (hno : ∀ i, i < kc → ¬ spC z n j i) (hkc : kc ≤ 240) (hx : ∀ σ', CI σ0 q (T + kc) c (Zk z n kc) n σ' → kx (nI kc) σ') : ∀ m F k σ, k + m = kc → m < F → CI σ0 q (T + k) c (Zk z n k) n σ → wp_X1_hoursToSpoil_L19 kx q (nI j) F (nI k) σ := by
  intro m
  induction m with
  | zero =>
    intro F k σ e hF hC
    obtain ⟨F, rfl⟩ := fpos hF
    obtain rfl : k = kc := by omega
    have h12 : n ≤ 12 := by
      obtain ⟨-, -, y, L, -, a4, -⟩ := hC
      exact a4.1.zOK.2.1
    obtain ⟨w, hw, w', hw', v, g5, g0, -⟩ := hC.lot hj
    rw [wp_X1_hoursToSpoil_L19, cl (by omega)]
    refine ⟨w, hw, w', hw', v, fun _ => hx σ hC, fun c0 => ⟨fun _ => hx σ hC, fun c24 => ?_⟩⟩
    rw [g0] at c0
    rcases hs with r | r
    · exact absurd r c0
    · exact absurd (nI_le (a := 240) (b := k) r (by omega)) c24
  | succ m ih =>
    intro F k σ e hF hC
    obtain ⟨F, rfl⟩ := fpos hF
    have h12 : n ≤ 12 := by
      obtain ⟨-, -, y, L, -, a4, -⟩ := hC
      exact a4.1.zOK.2.1
    obtain ⟨w, hw, w', hw', v, g5, g0, -⟩ := hC.lot hj
    have hn := hno k (by omega)
    rw [wp_X1_hoursToSpoil_L19, cl (by omega)]
    refine ⟨w, hw, w', hw', v, fun c0 => ?_, fun c0 => ⟨fun c24 => lp_x 240 (by omega) (by decide) c24, fun c24 => hC.hour (by omega) (fun σ' h' => ?_)⟩⟩
    · rw [g0] at c0
      exact absurd (Or.inl c0) hn
    · have e1 := ih F (k + 1) σ' (by omega) (by omega) h'
      rw [nI_succ] at e1
      exact e1
theorem mspoil_loop {kx : Int32 → MS → Prop} {km : Nat} (hO : zOK (μ 0) n) (hj : j < n) (hs : spM (μ 0) n j km) (hno : ∀ i, i < km → ¬ spM (μ 0) n j i) (hkm : km ≤ 240) (hx : kx (nI km) (mZ μ (Zk (μ 0) n km))) : ∀ m F k, k + m = km → m < F → wp_X6_hoursToSpoil_L30 kx (nI j) F (nI k) (mZ μ (Zk (μ 0) n k)) := by
  have h12 := hO.2.1
  intro m
  induction m with
  | zero =>
    intro F k e hF
    obtain ⟨F, rfl⟩ := fpos hF
    obtain rfl : k = km := by omega
    rw [wp_X6_hoursToSpoil_L30]
    refine ⟨fun _ => hx, fun c24 => x6_grow1 (by omega) (fun g => ?_) (fun _ => ⟨fun _ => hx, fun d => absurd rfl d⟩)⟩
    rw [mZ_0] at g
    rcases hs with r | r
    · exact absurd (nI_le (a := 240) (b := k) r (by omega)) c24
    · exact absurd g r
  | succ m ih =>
    intro F k e hF
    obtain ⟨F, rfl⟩ := fpos hF
    have hn := hno k (by omega)
    rw [wp_X6_hoursToSpoil_L30]
    refine ⟨fun c24 => lp_x 240 (by omega) (by decide) c24, fun c24 => x6_grow1 (by omega) (fun g => ⟨fun d => absurd d (by decide), fun _ => x6_hour (n := n) ?_ ?_⟩) (fun g => ?_)⟩
    · rw [mZ_0]
      exact hO.hours k
    · rw [mZ_0, mZ_mZ]
      have e1 := ih F (k + 1) (by omega) (by omega)
      rw [nI_succ] at e1
      exact e1
    · rw [mZ_0] at g
      exact absurd (Or.inr g) hn
theorem sp_eq {kc km : Nat} (hs : spC z n j kc) (hno : ∀ i, i < kc → ¬ spC z n j i) (hkc : kc ≤ 240) (ms : spM z n j km) (mno : ∀ i, i < km → ¬ spM z n j i) (hkm : km ≤ 240) : (if ofz (Zk z n kc) j 0 = 6 then nI kc else -1) = (if ofz (Zk z n km) j 0 = 6 then nI km else -1) := by
  have hle : km ≤ kc := by
    rcases Nat.lt_or_ge kc km with q | q
    · exfalso
      have h1 := mno kc q
      rcases hs with r | r
      · refine h1 (Or.inr (fun g => ?_))
        rw [r] at g
        exact absurd g (by decide)
      · omega
    · exact q
  by_cases e : kc = km
  · rw [e]
  · have hlt : km < kc := by omega
    have hn := hno km hlt
    have c6 : ofz (Zk z n km) j 0 ≠ 6 := fun r => hn (Or.inl r)
    rw [if_neg c6]
    rcases ms with r | r
    · exact absurd (Or.inr r) hn
    · obtain ⟨-, g2, -⟩ := still r c6 (kc - km)
      rw [show km + (kc - km) = kc by omega] at g2
      rw [if_neg g2]
theorem sim_hoursToSpoil (hR : RO T x out σ.1 σ.2.1 μ) (hκ : σ.2.2.1 = 5000) (hN : σ.2.2.2.1 = 0) (hT : T + 300 < 2 ^ 30) : Sim T x out (wp_X1_hoursToSpoil x p σ) (wp_X6_hoursToSpoil p μ) cd0 := by
  obtain ⟨hA, b1, b2, b3, y, L, n, hX, hH, h1, h2⟩ := hR.fields
  have hF : oF σ x 0 0 (.ref hA) := ⟨_, hX, rfl⟩
  have hC : oC σ x 0 := ⟨_, hX⟩
  have h12 := h1.zOK.2.1
  have h7 := h1.zOK.1
  have hz : (mU μ 5 3 0) 0 = μ 0 := mU53 (by decide)
  by_cases c1 : lotV n p = 0
  · refine Or.inr ⟨0, 0, mU μ 5 3 1, by decide, fun Q X hX => ?_, fun Q hQ => ?_, mU_us⟩
    · unfold wp_X1_hoursToSpoil
      exact ⟨hC, x1_needLot hF hH h1.lots hN (by omega) (fun d => absurd c1 d) (fun _ => hX (oXs σ 0) (hR.thr 1))⟩
    · unfold wp_X6_hoursToSpoil
      exact x6_isLot h7 (goes1 c1 ⟨fun d => absurd rfl d, fun _ => hQ⟩)
  obtain ⟨j, hj, rfl⟩ := lotV_j h12 c1
  obtain ⟨kc, kc1, kc2, kc3⟩ := least (P := spC (μ 0) n j) 240 (Or.inr (by decide))
  obtain ⟨km, km1, km2, km3⟩ := least (P := spM (μ 0) n j) 240 (Or.inl (Nat.le_refl _))
  have hrs := sp_eq kc2 kc3 kc1 km2 km3 km1
  refine Or.inl ⟨if ofz (Zk (μ 0) n km) j 0 = 6 then nI km else -1, cpS (mZ (cpS (mU μ 5 3 0) 0 0 1 0 153) (Zk (μ 0) n km)) 1 0 0 0 153, fun Q X hQ => ?_, fun Q hQ => ?_, bk_3⟩
  · unfold wp_X1_hoursToSpoil
    refine ⟨hC, x1_needLot hF hH h1.lots hN (by omega) (fun _ => CI.begin (T := T) (c := 0) (z := μ 0) (n := n) ⟨b1, b2, b3, hX⟩ hH h1 h2 (by omega) (fun q σ8 hI _ _ => jnI ?_)) (fun d => absurd d c1)⟩
    refine spoil_loop (T := T) (c := 0) (σ0 := σ) (z := μ 0) (kc := kc) hj (by omega) kc2 kc3 kc1 (fun σ13 h13 => ?_) kc mF 0 σ8 (by omega) (by unfold mF; omega) hI
    have hq := hQ σ13 (h13.bk hR)
    rw [← hrs] at hq
    obtain ⟨w, hw, w', hw', v', g5, g0, -⟩ := h13.lot hj
    rw [cl (by omega)]
    refine ⟨w, hw, w', hw', v', fun d => ?_, fun d => ?_⟩
    · rw [g0] at d
      rw [if_neg d] at hq; exact hq
    · rw [g0] at d
      rw [if_pos d] at hq; exact hq
  · unfold wp_X6_hoursToSpoil
    have hz1 : cpS (mU μ 5 3 0) 0 0 1 0 153 0 = μ 0 := (cpS_ne (by decide)).trans hz
    refine x6_isLot h7 (goesY c1 (by decide) ⟨fun _ => x6_copyState (a1 := 0) (a2 := 0) (by decide) (by decide) (by decide) (jnI ?_), fun d => absurd d (by decide)⟩)
    have e := mspoil_loop (kx := fun (x10 : Int32) (σ11 : MS) => (wp_X6_of (nI j) 0 σ11 (fun v13 σ12 => (jn (fun (x16 : Int32) => (wp_X6_copyState 1 0 0 0 σ12 (fun σ17 => (Q x16 σ17)))) (fun kj15 => (((¬ v13 = 6) → (kj15 ((-1)))) ∧ ((v13 = 6) → (kj15 x10)))))))) (μ := cpS (mU μ 5 3 0) 0 0 1 0 153) (n := n) (j := j) (km := km) (by rw [hz1]; exact h1.zOK) hj (by rw [hz1]; exact km2) (by rw [hz1]; exact km3) km1 ?_ km mF 0 (by omega) (by unfold mF; omega)
    · have e0 : Zk (cpS (mU μ 5 3 0) 0 0 1 0 153 0) n 0 = cpS (mU μ 5 3 0) 0 0 1 0 153 0 := rfl
      rw [e0, mZ_self] at e
      exact e
    · rw [hz1]
      refine x6_of1 (w := 0) (by omega) (by decide) ?_
      rw [mZ_0]
      refine jn1 (if ofz (Zk (μ 0) n km) j 0 = 6 then nI km else -1) ?_ (fun k' hk => ⟨fun d => ?_, fun d => ?_⟩)
      · exact x6_copyState (a1 := 0) (a2 := 0) (by decide) (by decide) (by decide) hQ
      · rw [if_neg d] at hk; exact hk
      · rw [if_pos d] at hk; exact hk
/-! the best air -/
def baV (bz : Nat → Zz) (j k : Nat) : Int32 := if 0 ≤ ofz (bz k) j 6 - 18 then ofz (bz k) j 6 - 18 else -(ofz (bz k) j 6 - 18)
def baB (bz : Nat → Zz) (j : Nat) : Nat → Int32 × Int32
  | 0 => (-1, 1000)
  | k + 1 => if ofz (bz k) j 0 = 2 ∧ ¬ (baB bz j k).2 ≤ baV bz j k then (nI k, baV bz j k) else baB bz j k
theorem bav_tab : ∀ h, h < 43 → 10 ≤ h → (if 0 ≤ nI h - 18 then nI h - 18 else -(nI h - 18)) = iAbs (nI h - 18) ∧ ¬ (1000 : Int32) ≤ (if 0 ≤ nI h - 18 then nI h - 18 else -(nI h - 18)) := by decide +kernel
theorem copy_kept {z' : Zz} (h0 : ∀ i, i < 153 → μ 1 i = z' i) : ∀ i, i < 153 → cpS μ 1 0 0 0 153 0 i = z' i := fun i hi => by
  rw [cpS_at, if_pos (by omega), Nat.sub_zero, Nat.zero_add]
  exact h0 i hi
end TS
