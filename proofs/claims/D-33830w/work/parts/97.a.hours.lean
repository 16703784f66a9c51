set_option maxRecDepth 100000
/-! PLAIN: hours that are only thought of -/
theorem least {P : Nat → Prop} : ∀ N, P N → ∃ k, k ≤ N ∧ P k ∧ ∀ i, i < k → ¬ P i := by
  intro N
  induction N using Nat.strongRecOn with
  | ind N ih =>
    intro h
    by_cases c : ∃ i, i < N ∧ P i
    · obtain ⟨i, hi, hp⟩ := c
      obtain ⟨k, h1, h2⟩ := ih i hi hp
      exact ⟨k, by omega, h2⟩
    · exact ⟨N, Nat.le_refl _, h, fun i hi hp => c ⟨i, hi, hp⟩⟩
def CI (σ0 : OS) (q T c : Nat) (z : Zz) (n : Nat) (σ : OS) : Prop := (∀ r e, σ0.1 r = some e → σ.1 r = some e) ∧ (∀ a w, σ0.2.1 a = some w → a ≠ q ∧ σ.2.1 a = some w) ∧ ∃ y L, σ.2.1 q = some (y, L) ∧ RK T c (y, L, σ.2.2.1) z n ∧ litk z n
section TH
variable {T T' x out n j q c : Nat} {σ σ0 : OS} {μ μ' : MS} {z z' : Zz} {a b p p2 : Int32}
theorem CI.put {s : HS} {z' : Zz} (h : CI σ0 q T c z n σ) (h1 : RK T' c s z' n) (h2 : litk z' n) : CI σ0 q T' c z' n (oHc σ q s) := by
  obtain ⟨a1, a2, y, L, a3, a4, a5⟩ := h
  exact ⟨a1, fun a w hw => ⟨(a2 a w hw).1, (if_neg (a2 a w hw).1).trans (a2 a w hw).2⟩, s.1, s.2.1, if_pos rfl, h1, h2⟩
theorem CI.hour {K : Int32 → OS → Prop} (h : CI σ0 q T c z n σ) (hT : T + 1 < 2 ^ 30) (k : ∀ σ', CI σ0 q (T + 1) c (zHour z n).2 n σ' → K (zHour z n).1 σ') : ∃ w : MS × List Int32, σ.2.1 q = some w ∧ wp_X2_hour (w.1, w.2, σ.2.2.1) (fun v s => ∀ σ' : OS, σ' = oHc σ q s → K v σ') := by
  obtain ⟨a1, a2, y, L, a3, a4, a5⟩ := id h
  exact ⟨(y, L), a3, x2_hour hT a4 a5 (fun s' g1 g2 σ' e => k σ' (by rw [e]; exact h.put g1 g2))⟩
theorem CI.ro (h : CI σ0 q T' c z n σ) (hR : RO T x out σ0.1 σ0.2.1 μ) (h0 : ∀ i, i < 153 → μ' 0 i = μ 0 i) (h2 : ∀ i, i < 765 → μ' 2 i = μ 2 i) (h3 : ∀ i, i < 153 → μ' 3 i = μ 3 i) (h4 : ∀ i, i < 60 → μ' 4 i = μ 4 i) (h5 : ∀ i, i < 3 → μ' 5 i = μ 5 i) : RO T x out σ.1 σ.2.1 μ' :=
  hR.ext (Nat.le_refl _) h.1 (fun a w hw => (h.2.1 a w hw).2) h0 h2 h3 h4 h5
/-- a copy is made -/
theorem CI.begin {hA : Nat} {y : MS} {L : List Int32} {K : Nat → OS → Prop} (hF : ∃ b1 b2 b3, σ.1 x = some (.inr (0, [.ref hA, b1, b2, b3]))) (hH : σ.2.1 hA = some (y, L)) (h1 : RH T y L z n) (h2 : litk z n) (hκ : 180 + c ≤ σ.2.2.1) (k : ∀ q σ', CI σ q T c z n σ' → σ.2.2.1 ≤ σ'.2.2.1 + 30 → σ'.2.2.2.1 = 0 → K q σ') : 3 ≤ σ.2.2.1 ∧ ∀ q4 : Nat, oFr σ q4 → (σ.2.2.2.1 ≠ 0 → q4 = σ.2.2.2.1) → ∀ σ5 : OS, σ5 = oNew σ q4 3 (.inr (1, [.null, .null, .null, .null, .null, .null, .null, .null, .null, .null, .int 0, .int 0, .int 0, .int 0, .int 0, .int 0, .int 0, .int 0, .int 0, .int 0, .int 0, .int 0])) → (∃ r6 : Nat, oF σ5 x 0 0 (.ref r6) ∧ wp_X2_init_2 q4 r6 σ5 (fun σ7 => (∃ (y : MS) (L : List Int32), oHouse σ7 q4 y L ∧ ∀ σ8 : OS, σ8 = oFold σ7 q4 y L → K q4 σ8))) := by
  obtain ⟨b1, b2, b3, hF⟩ := hF
  refine ⟨by omega, fun q4 d1 d2 σ5 d3 => ?_⟩
  have x5 : σ5.1 x = some (.inr (0, [.ref hA, b1, b2, b3])) := by
    rw [d3]
    show a_up σ.1 q4 _ x = _
    have := d1.1 _ _ hF
    rw [a_up_ne (by omega)]
    exact hF
  refine ⟨hA, ⟨_, x5, rfl⟩, x2_copy (n := n) (w := (y, L)) d1 d3 hH h1.lots h1.zOK.2.1 h1.lit (by omega) (fun σ8 c1 c2 c3 c4 => k q4 σ8 ⟨c1, fun a w hw => ?_, cpY y n, L, by rw [c2]; exact if_pos rfl, RK.of (h1.copy (fun b i hb hi => if_neg (by omega)) (fun b d hb _ _ => if_neg (by omega)) (fun i _ => if_neg (by omega))) (by omega), h2⟩ c3 c4)⟩
  have hlt := d1.2 a w hw
  refine ⟨by omega, ?_⟩
  rw [c2]
  show (if a = q4 then _ else σ.2.1 a) = _
  rw [if_neg (by omega)]
  exact hw
theorem RO.fields (hR : RO T x out σ.1 σ.2.1 μ) : ∃ (hA : Nat) (b1 b2 b3 : Value) (y : MS) (L : List Int32) (n : Nat), σ.1 x = some (.inr (0, [.ref hA, b1, b2, b3])) ∧ σ.2.1 hA = some (y, L) ∧ RH T y L (μ 0) n ∧ litk (μ 0) n := by
  obtain ⟨hA, dq, sb, l, sO, lst, e1, ⟨y, L, n, g1, g2, g3⟩, -⟩ := hR
  exact ⟨hA, _, _, _, y, L, n, e1, g1, g2, g3⟩
/-- the model's own array put by and back again -/
theorem spare_back {z : Zz} (hb : ∀ i, i < 153 → (cpS (mZ (cpS (mU μ 5 3 0) 0 0 1 0 153) z) 1 0 0 0 153) 0 i = μ 0 i) : True := trivial
theorem bk_0 {z : Zz} : ∀ i, i < 153 → (cpS (mZ (cpS (mU μ 5 3 0) 0 0 1 0 153) z) 1 0 0 0 153) 0 i = μ 0 i := fun i hi => by
  rw [cpS_at, if_pos (by omega)]
  show cpS (mU μ 5 3 0) 0 0 1 0 153 1 (0 + (i - 0)) = _
  rw [cpS_at, if_pos (by omega), mU_at (by omega)]
  congr 1
  omega
theorem bk_n {z : Zz} {b i : Nat} (h0 : b ≠ 0) (h1 : b ≠ 1) (h5 : b ≠ 5 ∨ i ≠ 3) : (cpS (mZ (cpS (mU μ 5 3 0) 0 0 1 0 153) z) 1 0 0 0 153) b i = μ b i := by
  rw [cpS_ne h0, mZ_n h0, cpS_ne h1, mU_at (by omega)]
theorem bk_3 {z : Zz} : (cpS (mZ (cpS (mU μ 5 3 0) 0 0 1 0 153) z) 1 0 0 0 153) 5 3 = 0 := by
  rw [cpS_ne (by decide), mZ_n (by decide), cpS_ne (by decide)]
  exact mU_us
theorem CI.bk {z' : Zz} (h : CI σ0 q T' c z n σ) (hR : RO T x out σ0.1 σ0.2.1 μ) : RO T x out σ.1 σ.2.1 (cpS (mZ (cpS (mU μ 5 3 0) 0 0 1 0 153) z') 1 0 0 0 153) :=
  h.ro hR bk_0 (fun i _ => bk_n (by decide) (by decide) (by omega)) (fun i _ => bk_n (by decide) (by decide) (by omega)) (fun i _ => bk_n (by decide) (by decide) (by omega)) (fun i hi => bk_n (by decide) (by decide) (by omega))
theorem CI.thr (h : CI σ0 q T' c z n σ) (hR : RO T x out σ0.1 σ0.2.1 μ) : RO T x out σ.1 σ.2.1 (mU μ 5 3 0) :=
  h.ro hR (fun i _ => mU_at (by omega)) (fun i _ => mU_at (by omega)) (fun i _ => mU_at (by omega)) (fun i _ => mU_at (by omega)) (fun i hi => mU_at (by omega))
/-! to a growth -/
def Zk (z : Zz) (n k : Nat) : Zz := (zHours z n k).2
def stC (z : Zz) (n j : Nat) (p2 : Int32) (k : Nat) : Prop := p2 ≤ ofz (Zk z n k) j 5 ∨ ofz (Zk z n k) j 0 = 6 ∨ 240 < k
def stM (z : Zz) (n j : Nat) (p2 : Int32) (k : Nat) : Prop := 240 ≤ k ∨ p2 ≤ ofz (Zk z n k) j 5 ∨ ¬ (ofz (Zk z n k) j 0 = 2 ∨ ofz (Zk z n k) j 0 = 3)
theorem CI.lot (h : CI σ0 q T c z n σ) (hj : j < n) : ∃ w : MS × List Int32, σ.2.1 q = some w ∧ (∃ w' : MS × List Int32, σ.2.1 q = some w' ∧ vp_in (nI j) 12 ∧ w'.1 3 j = ofz z j 5 ∧ w'.1 6 j = ofz z j 0 ∧ w'.1 4 j = ofz z j 6) := by
  obtain ⟨a1, a2, y, L, a3, a4, a5⟩ := id h
  have h12 := a4.1.zOK.2.1
  have hE := a4.1.2.1 j hj
  exact ⟨(y, L), a3, (y, L), a3, vl (by omega), hE.2.2.2.2.1, hE.1, hE.2.2.2.2.2.1⟩
theorem grow_loop {kx : Int32 → OS → Prop} {kc : Nat} (hj : j < n) (hT : T + 300 < 2 ^ 30) (hs : stC z n j p2 kc) (hno : ∀ i, i < kc → ¬ stC z n j p2 i) (hkc : kc ≤ 241) (hx : ∀ σ', CI σ0 q (T + kc) c (Zk z n kc) n σ' → kx (nI kc) σ') : ∀ m F k σ, k + m = kc → m < F → CI σ0 q (T + k) c (Zk z n k) n σ → wp_X1_hoursToGrow_L30 kx q (nI j) p2 F (nI k) σ := by
  intro m
  induction m with
  | zero =>
    intro F k σ e hF hC
    obtain ⟨F, rfl⟩ := fpos hF
    obtain rfl : k = kc := by omega
    have h12 : n ≤ 12 := by
      obtain ⟨-, -, y, L, -, a4, -⟩ := hC
      exact a4.1.zOK.2.1
    obtain ⟨w, hw, w', hw', v, g5, g0, -⟩ := hC.lot hj
    rw [wp_X1_hoursToGrow_L30, cl (by omega)]
    refine ⟨w, hw, w', hw', v, fun _ => hx σ hC, fun c5 => ⟨w, hw, w', hw', v, fun _ => hx σ hC, fun c0 => ⟨fun _ => hx σ hC, fun c24 => ?_⟩⟩⟩
    rw [g5] at c5
    rw [g0] at c0
    rcases hs with r | r | r
    · exact absurd r c5
    · exact absurd r c0
    · exact absurd (nI_lt (a := 240) (b := k) r (by omega)) c24
  | succ m ih =>
    intro F k σ e hF hC
    obtain ⟨F, rfl⟩ := fpos hF
    have h12 : n ≤ 12 := by
      obtain ⟨-, -, y, L, -, a4, -⟩ := hC
      exact a4.1.zOK.2.1
    obtain ⟨w, hw, w', hw', v, g5, g0, -⟩ := hC.lot hj
    have hn := hno k (by omega)
    rw [wp_X1_hoursToGrow_L30, cl (by omega)]
    refine ⟨w, hw, w', hw', v, fun c5 => ?_, fun c5 => ⟨w, hw, w', hw', v, fun c0 => ?_, fun c0 => ⟨fun c24 => ?_, fun c24 => hC.hour (by omega) (fun σ' h' => ?_)⟩⟩⟩
    · rw [g5] at c5
      exact absurd (Or.inl c5) hn
    · rw [g0] at c0
      exact absurd (Or.inr (Or.inl c0)) hn
    · exact absurd c24 (nI_nlt (a := 240) (b := k) (by omega) (by decide))
    · have e1 := ih F (k + 1) σ' (by omega) (by omega) h'
      rw [nI_succ] at e1
      exact e1
theorem mgrow_loop {kx : Int32 → MS → Prop} {km : Nat} (hO : zOK (μ 0) n) (hj : j < n) (hs : stM (μ 0) n j p2 km) (hno : ∀ i, i < km → ¬ stM (μ 0) n j p2 i) (hkm : km ≤ 240) (hx : kx (nI km) (mZ μ (Zk (μ 0) n km))) : ∀ m F k, k + m = km → m < F → wp_X6_hoursToGrow_L48 kx (nI j) p2 F (nI k) (mZ μ (Zk (μ 0) n k)) := by
  have h12 := hO.2.1
  intro m
  induction m with
  | zero =>
    intro F k e hF
    obtain ⟨F, rfl⟩ := fpos hF
    obtain rfl : k = km := by omega
    rw [wp_X6_hoursToGrow_L48]
    refine ⟨fun _ => hx, fun c24 => x6_of1 (w := 5) (by omega) (by decide) ⟨fun _ => hx, fun c5 => x6_grow1 (by omega) (fun g => ?_) (fun _ => ⟨fun _ => hx, fun d => absurd rfl d⟩)⟩⟩
    rw [mZ_0] at c5 g
    rcases hs with r | r | r
    · exact absurd (nI_le (a := 240) (b := k) r (by omega)) c24
    · exact absurd r c5
    · exact absurd g r
  | succ m ih =>
    intro F k e hF
    obtain ⟨F, rfl⟩ := fpos hF
    have hn := hno k (by omega)
    rw [wp_X6_hoursToGrow_L48]
    refine ⟨fun c24 => lp_x 240 (by omega) (by decide) c24, fun c24 => x6_of1 (w := 5) (by omega) (by decide) ⟨fun c5 => ?_, fun c5 => x6_grow1 (by omega) (fun g => ⟨fun d => absurd d (by decide), fun _ => x6_hour (n := n) ?_ ?_⟩) (fun g => ?_)⟩⟩
    · rw [mZ_0] at c5
      exact absurd (Or.inr (Or.inl c5)) hn
    · rw [mZ_0]
      exact hO.hours k
    · rw [mZ_0, mZ_mZ]
      have e1 := ih F (k + 1) (by omega) (by omega)
      rw [nI_succ] at e1
      exact e1
    · rw [mZ_0] at g
      exact absurd (Or.inr (Or.inr g)) hn
theorem Zk_pe {k : Nat} : PE (ofz (Zk z n k) j) (ofz (Zk z n (k + 1)) j) := zHour_pe
/-- what doesn't grow stays so -/
theorem still {k : Nat} (h2 : ¬ (ofz (Zk z n k) j 0 = 2 ∨ ofz (Zk z n k) j 0 = 3)) (h6 : ofz (Zk z n k) j 0 ≠ 6) : ∀ d, ¬ (ofz (Zk z n (k + d)) j 0 = 2 ∨ ofz (Zk z n (k + d)) j 0 = 3) ∧ ofz (Zk z n (k + d)) j 0 ≠ 6 ∧ ofz (Zk z n (k + d)) j 5 = ofz (Zk z n k) j 5
  | 0 => ⟨h2, h6, rfl⟩
  | d + 1 => by
    obtain ⟨a1, a2, a3⟩ := still h2 h6 d
    obtain ⟨b1, b2⟩ := Zk_pe (z := z) (n := n) (j := j) (k := k + d)
    have e : k + (d + 1) = k + d + 1 := rfl
    rw [e]
    refine ⟨?_, ?_, (b2 a1).trans a3⟩
    · rcases b1 with ⟨r, -⟩ | ⟨r, -⟩ | ⟨-, r⟩
      · rw [r]; exact a1
      · exact absurd r a1
      · rw [r]; decide
    · rcases b1 with ⟨r, -⟩ | ⟨r, -⟩ | ⟨-, r⟩
      · rw [r]; exact a2
      · exact absurd r a1
      · rw [r]; decide
def rsC (z : Zz) (n j : Nat) (p2 : Int32) (k : Nat) : Int32 := if (0 < k ∧ ofz (Zk z n k) j 0 = 6) ∨ 240 < k then -1 else if p2 ≤ ofz (Zk z n k) j 5 then nI k else -1
def rsM (z : Zz) (n j : Nat) (p2 : Int32) (k : Nat) : Int32 := if k = 0 ∧ p2 ≤ ofz (Zk z n k) j 5 then 0 else if ofz (Zk z n k) j 5 < p2 then -1 else if ofz (Zk z n k) j 0 = 6 then -1 else nI k
theorem rs_eq {kc km : Nat} (hs : stC z n j p2 kc) (hno : ∀ i, i < kc → ¬ stC z n j p2 i) (hkc : kc ≤ 241) (ms : stM z n j p2 km) (mno : ∀ i, i < km → ¬ stM z n j p2 i) (hkm : km ≤ 240) : rsC z n j p2 kc = rsM z n j p2 km := by
  have hle : km ≤ kc := by
    rcases Nat.lt_or_ge kc km with q | q
    · exfalso
      have h1 := mno kc q
      rcases hs with r | r | r
      · exact h1 (Or.inr (Or.inl r))
      · refine h1 (Or.inr (Or.inr (fun g => ?_)))
        rw [r] at g
        exact absurd g (by decide)
      · omega
    · exact q
  by_cases c5 : p2 ≤ ofz (Zk z n km) j 5
  · have hkk : kc = km := by
      rcases Nat.lt_or_ge km kc with q | q
      · exact absurd (Or.inl c5) (hno km q)
      · omega
    rw [hkk]
    unfold rsC rsM
    by_cases k0 : km = 0
    · rw [if_neg (by omega), if_pos c5, if_pos ⟨k0, c5⟩, k0]
      rfl
    · rw [if_neg (show ¬ (km = 0 ∧ p2 ≤ ofz (Zk z n km) j 5) from fun q => k0 q.1), if_neg (Int32.not_lt.mpr c5)]
      by_cases c6 : ofz (Zk z n km) j 0 = 6
      · rw [if_pos (Or.inl ⟨by omega, c6⟩), if_pos c6]
      · rw [if_neg (fun q => q.elim (fun r => c6 r.2) (fun r => by omega)), if_pos c5, if_neg c6]
  · have hm : rsM z n j p2 km = -1 := by
      unfold rsM
      rw [if_neg (fun q => c5 q.2), if_pos (Int32.not_le.mp c5)]
    rw [hm]
    unfold rsC
    by_cases c1 : (0 < kc ∧ ofz (Zk z n kc) j 0 = 6) ∨ 240 < kc
    · rw [if_pos c1]
    · rw [if_neg c1]
      refine if_neg (fun q => ?_)
      have hlt : km < kc := by
        rcases Nat.lt_or_ge km kc with r | r
        · exact r
        · have e : kc = km := by omega
          rw [e] at q
          exact absurd q c5
      have hn := hno km hlt
      have c6 : ofz (Zk z n km) j 0 ≠ 6 := fun r => hn (Or.inr (Or.inl r))
      rcases ms with r | r | r
      · exact c1 (Or.inr (by omega))
      · exact c5 r
      · obtain ⟨-, -, g3⟩ := still r c6 (kc - km)
        rw [show km + (kc - km) = kc by omega] at g3
        rw [g3] at q
        exact c5 q
theorem sim_hoursToGrow (hR : RO T x out σ.1 σ.2.1 μ) (hκ : σ.2.2.1 = 5000) (hN : σ.2.2.2.1 = 0) (hT : T + 300 < 2 ^ 30) : Sim T x out (wp_X1_hoursToGrow x p p2 σ) (wp_X6_hoursToGrow p p2 μ) cd03 := by
  obtain ⟨hA, b1, b2, b3, y, L, n, hX, hH, h1, h2⟩ := hR.fields
  have hF : oF σ x 0 0 (.ref hA) := ⟨_, hX, rfl⟩
  have hC : oC σ x 0 := ⟨_, hX⟩
  have h12 := h1.zOK.2.1
  have h7 := h1.zOK.1
  have hz : (mU μ 5 3 0) 0 = μ 0 := mU53 (by decide)
  by_cases c1 : lotV n p = 0
  · refine Or.inr ⟨0, 0, mU μ 5 3 1, by decide, fun Q X hX => ?_, fun Q hQ => ?_, mU_us⟩
    · unfold wp_X1_hoursToGrow
      exact ⟨hC, x1_needLot hF hH h1.lots hN (by omega) (fun d => absurd c1 d) (fun _ => hX (oXs σ 0) (hR.thr 1))⟩
    · unfold wp_X6_hoursToGrow
      exact x6_isLot h7 (x6_in (goes1 c1 ⟨fun d => absurd rfl d, fun _ => hQ⟩))
  obtain ⟨j, hj, rfl⟩ := lotV_j h12 c1
  by_cases c2 : rgV p2 0 100 = 0
  · refine Or.inr ⟨1, 0, mU μ 5 3 2, by decide, fun Q X hX => ?_, fun Q hQ => ?_, mU_us⟩
    · unfold wp_X1_hoursToGrow
      exact ⟨hC, x1_needLot hF hH h1.lots hN (by omega) (fun _ => x1_in ⟨fun d => absurd c2 d, fun _ => ⟨by omega, hX (oXs σ 0) (hR.thr 2)⟩⟩) (fun d => absurd d c1)⟩
    · unfold wp_X6_hoursToGrow
      exact x6_isLot h7 (x6_in (goes2 c1 c2 ⟨fun d => absurd rfl d, fun _ => hQ⟩))
  obtain ⟨kc, kc1, kc2, kc3⟩ := least (P := stC (μ 0) n j p2) 241 (Or.inr (Or.inr (by decide)))
  obtain ⟨km, km1, km2, km3⟩ := least (P := stM (μ 0) n j p2) 240 (Or.inl (Nat.le_refl _))
  have hrs := rs_eq kc2 kc3 kc1 km2 km3 km1
  have comp : ∀ (μ' : MS) (v : Int32), v = rsC (μ 0) n j p2 kc → (∀ σ', CI σ hA T 0 (μ 0) n σ' → True) → (∀ q σ', CI σ q (T + kc) 0 (Zk (μ 0) n kc) n σ' → RO T x out σ'.1 σ'.2.1 μ') → ∀ Q X, (∀ σ' : OS, RO T x out σ'.1 σ'.2.1 μ' → Q v σ') → wp_X1_hoursToGrow x (nI j) p2 σ Q X := by
    intro μ' v hv _ hro Q X hQ
    unfold wp_X1_hoursToGrow
    refine ⟨hC, x1_needLot hF hH h1.lots hN (by omega) (fun _ => x1_in ⟨fun _ => CI.begin (T := T) (c := 0) (z := μ 0) (n := n) ⟨b1, b2, b3, hX⟩ hH h1 h2 (by omega) (fun q σ8 hI _ _ => jnI ?_), fun d => absurd d c2⟩) (fun d => absurd d c1)⟩
    refine grow_loop (T := T) (c := 0) (σ0 := σ) (z := μ 0) (kc := kc) hj (by omega) kc2 kc3 kc1 (fun σ13 h13 => ?_) kc mF 0 σ8 (by omega) (by unfold mF; omega) hI
    have hq := hQ σ13 (hro q σ13 h13)
    rw [hv] at hq
    obtain ⟨w, hw, w', hw', v', g5, g0, -⟩ := h13.lot hj
    rw [cl (by omega)]
    unfold rsC at hq
    refine jn1 (if (0 < kc ∧ ofz (Zk (μ 0) n kc) j 0 = 6) ∨ 240 < kc then 1 else 0) ⟨fun d => ?_, fun d => ⟨w, hw, w', hw', v', fun c5 => ?_, fun c5 => ?_⟩⟩ (fun k' hk => ⟨fun d => ⟨fun d2 => ?_, fun d2 => ?_⟩, fun d => ⟨w, hw, w', hw', v', fun c6 => ?_, fun c6 => ⟨fun d2 => ?_, fun d2 => ?_⟩⟩⟩)
    · by_cases cc : (0 < kc ∧ ofz (Zk (μ 0) n kc) j 0 = 6) ∨ 240 < kc
      · rw [if_pos cc] at hq; exact hq
      · rw [if_neg cc] at d; exact absurd rfl d
    · rw [g5] at c5
      by_cases cc : (0 < kc ∧ ofz (Zk (μ 0) n kc) j 0 = 6) ∨ 240 < kc
      · rw [if_pos cc] at d; exact absurd d (by decide)
      · rw [if_neg cc, if_pos c5] at hq; exact hq
    · rw [g5] at c5
      by_cases cc : (0 < kc ∧ ofz (Zk (μ 0) n kc) j 0 = 6) ∨ 240 < kc
      · rw [if_pos cc] at d; exact absurd d (by decide)
      · rw [if_neg cc, if_neg c5] at hq; exact hq
    · have k0 : kc = 0 := by
        rcases Nat.eq_zero_or_pos kc with q | q
        · exact q
        · exact absurd d (nI_nle q (by omega))
      rw [if_neg (by omega)] at hk; exact hk
    · have k0 : kc = 0 := by
        rcases Nat.eq_zero_or_pos kc with q | q
        · exact q
        · exact absurd d (nI_nle q (by omega))
      exact absurd (by rw [k0]; decide : nI kc ≤ (240 : Int32)) d2
    · rw [g0] at c6
      have k0 : 0 < kc := by
        rcases Nat.eq_zero_or_pos kc with q | q
        · exact absurd (by rw [q]; decide : nI kc ≤ (0 : Int32)) d
        · exact q
      rw [if_pos (Or.inl ⟨k0, c6⟩)] at hk; exact hk
    · rw [g0] at c6
      have k24 : ¬ 240 < kc := fun q => absurd d2 (nI_ge (a := 240) (b := kc) q (by omega))
      rw [if_neg (fun q => q.elim (fun r => c6 r.2) k24)] at hk; exact hk
    · have k24 : 240 < kc := by
        rcases Nat.lt_or_ge 240 kc with q | q
        · exact q
        · exact absurd (nI_le (a := kc) (b := 240) q (by decide)) d2
      rw [if_pos (Or.inr k24)] at hk; exact hk
  by_cases c5 : p2 ≤ ofz (μ 0) j 5
  · have k0 : km = 0 := by
      rcases Nat.eq_zero_or_pos km with q | q
      · exact q
      · exact absurd (Or.inr (Or.inl c5)) (km3 0 q)
    have hv : rsM (μ 0) n j p2 km = 0 := by
      unfold rsM
      rw [k0]
      exact if_pos ⟨rfl, c5⟩
    refine Or.inl ⟨0, mU μ 5 3 0, comp _ _ (by rw [hrs, hv]) (fun _ _ => trivial) (fun q σ' h' => h'.thr hR), fun Q hQ => ?_, mU_us⟩
    unfold wp_X6_hoursToGrow
    refine x6_isLot h7 (x6_in (goesY c1 c2 ⟨fun _ => x6_of1 (w := 5) (by omega) (by decide) ⟨fun d => ?_, fun _ => hQ⟩, fun d => absurd d (by decide)⟩))
    rw [hz] at d
    exact absurd c5 (Int32.not_le.mpr d)
  · have hv : rsM (μ 0) n j p2 km = if ofz (Zk (μ 0) n km) j 5 < p2 then -1 else if ofz (Zk (μ 0) n km) j 0 = 6 then -1 else nI km := by
      unfold rsM
      refine if_neg (fun q => ?_)
      obtain ⟨q1, q2⟩ := q
      rw [q1] at q2
      exact c5 q2
    refine Or.inl ⟨if ofz (Zk (μ 0) n km) j 5 < p2 then -1 else if ofz (Zk (μ 0) n km) j 0 = 6 then -1 else nI km, cpS (mZ (cpS (mU μ 5 3 0) 0 0 1 0 153) (Zk (μ 0) n km)) 1 0 0 0 153, comp _ _ (by rw [hrs, hv]) (fun _ _ => trivial) (fun q σ' h' => h'.bk hR), fun Q hQ => ?_, bk_3⟩
    unfold wp_X6_hoursToGrow
    have hz1 : cpS (mU μ 5 3 0) 0 0 1 0 153 0 = μ 0 := (cpS_ne (by decide)).trans hz
    refine x6_isLot h7 (x6_in (goesY c1 c2 ⟨fun _ => x6_of1 (w := 5) (by omega) (by decide) ⟨fun d => x6_copyState (a1 := 0) (a2 := 0) (by decide) (by decide) (by decide) (jnI ?_), fun d => ?_⟩, fun d => absurd d (by decide)⟩))
    · have e := mgrow_loop (kx := fun (x14 : Int32) (σ15 : MS) => (wp_X6_of (nI j) 5 σ15 (fun v17 σ16 => (jn (fun (x20 : Int32) (σ21 : MS) => (wp_X6_copyState 1 0 0 0 σ21 (fun σ22 => (Q x20 σ22)))) (fun kj19 => (((v17 < p2) → (kj19 ((-1)) σ16)) ∧ ((¬ v17 < p2) → (wp_X6_of (nI j) 0 σ16 (fun v24 σ23 => (((v24 = 6) → (kj19 ((-1)) σ23)) ∧ ((¬ v24 = 6) → (kj19 x14 σ23)))))))))))) (μ := cpS (mU μ 5 3 0) 0 0 1 0 153) (n := n) (j := j) (p2 := p2) (km := km) (by rw [hz1]; exact h1.zOK) hj (by rw [hz1]; exact km2) (by rw [hz1]; exact km3) km1 ?_ km mF 0 (by omega) (by unfold mF; omega)
      · have e0 : Zk (cpS (mU μ 5 3 0) 0 0 1 0 153 0) n 0 = cpS (mU μ 5 3 0) 0 0 1 0 153 0 := rfl
        rw [e0, mZ_self] at e
        exact e
      · rw [hz1]
        refine x6_of1 (w := 5) (by omega) (by decide) ?_
        rw [mZ_0]
        refine jn2 (if ofz (Zk (μ 0) n km) j 5 < p2 then -1 else if ofz (Zk (μ 0) n km) j 0 = 6 then -1 else nI km) (mZ (cpS (mU μ 5 3 0) 0 0 1 0 153) (Zk (μ 0) n km)) ?_ (fun k' hk => ⟨fun d => ?_, fun d => x6_of1 (w := 0) (by omega) (by decide) ⟨fun d2 => ?_, fun d2 => ?_⟩⟩)
        · exact x6_copyState (a1 := 0) (a2 := 0) (by decide) (by decide) (by decide) hQ
        · rw [if_pos d] at hk; exact hk
        · rw [mZ_0] at d2
          rw [if_neg d, if_pos d2] at hk; exact hk
        · rw [mZ_0] at d2
          rw [if_neg d, if_neg d2] at hk; exact hk
    · rw [hz] at d
      exact absurd (Int32.not_le.mp c5) d
end TH
