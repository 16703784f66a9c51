set_option maxRecDepth 100000
/-! PLAIN: calls that only look and throw nothing; by program -/
section LN
variable {T T' x out n j : Nat} {σ : OS} {μ : MS} {z z' : Zz} {a b p p2 : Int32}
theorem sim_lots (hR : RO T x out σ.1 σ.2.1 μ) (hκ : σ.2.2.1 = 5000) (hN : σ.2.2.2.1 = 0) : SimN T x out (wp_X1_lots x σ) (wp_X6_lots μ) := by
  obtain ⟨hA, y, L, n, hF, hC, hH, h1, h2, h12, h7⟩ := hR.begin
  obtain ⟨q0, qE, qS, qG, qD, qB, qI⟩ := id h1
  have e9 : y 11 1 = μ 0 7 := q0.2.2.2.2.2.2.2.1
  refine ⟨μ 0 7, mU μ 5 3 0, fun Q hQ => ?_, fun Q hQ => ?_⟩
  · unfold wp_X1_lots
    refine ⟨hA, hF, (y, L), hH, ?_⟩
    show Q (y 11 1) σ
    rw [e9]
    exact hQ σ (hR.thr 0)
  · unfold wp_X6_lots
    intro σ1 es
    rw [zc7, es, mU53 (by decide)]
    exact ⟨zv7, hQ⟩
theorem sim_litFor (hR : RO T x out σ.1 σ.2.1 μ) (hκ : σ.2.2.1 = 5000) (hN : σ.2.2.2.1 = 0) : SimN T x out (wp_X1_litFor x σ) (wp_X6_litFor μ) := by
  obtain ⟨hA, y, L, n, hF, hC, hH, h1, h2, h12, h7⟩ := hR.begin
  obtain ⟨q0, qE, qS, qG, qD, qB, qI⟩ := id h1
  have e9 : y 11 4 = μ 0 2 := q0.2.2.1
  refine ⟨μ 0 2, mU μ 5 3 0, fun Q hQ => ?_, fun Q hQ => ?_⟩
  · unfold wp_X1_litFor
    refine ⟨hA, hF, (y, L), hH, ?_⟩
    show Q (y 11 4) σ
    rw [e9]
    exact hQ σ (hR.thr 0)
  · unfold wp_X6_litFor
    intro σ1 es
    rw [zc2, es, mU53 (by decide)]
    exact ⟨zv2, hQ⟩
theorem sim_spraysLeft (hR : RO T x out σ.1 σ.2.1 μ) (hκ : σ.2.2.1 = 5000) (hN : σ.2.2.2.1 = 0) : SimN T x out (wp_X1_spraysLeft x σ) (wp_X6_spraysLeft μ) := by
  obtain ⟨hA, y, L, n, hF, hC, hH, h1, h2, h12, h7⟩ := hR.begin
  obtain ⟨q0, qE, qS, qG, qD, qB, qI⟩ := id h1
  have e9 : y 11 8 = μ 0 6 := q0.2.2.2.2.2.2.1
  refine ⟨μ 0 6, mU μ 5 3 0, fun Q hQ => ?_, fun Q hQ => ?_⟩
  · unfold wp_X1_spraysLeft
    refine ⟨hA, hF, (y, L), hH, ?_⟩
    show Q (y 11 8) σ
    rw [e9]
    exact hQ σ (hR.thr 0)
  · unfold wp_X6_spraysLeft
    intro σ1 es
    rw [zc6, es, mU53 (by decide)]
    exact ⟨zv6, hQ⟩
theorem sim_time (hR : RO T x out σ.1 σ.2.1 μ) (hκ : σ.2.2.1 = 5000) (hN : σ.2.2.2.1 = 0) : SimN T x out (wp_X1_time x σ) (wp_X6_time μ) := by
  obtain ⟨hA, y, L, n, hF, hC, hH, h1, h2, h12, h7⟩ := hR.begin
  obtain ⟨q0, qE, qS, qG, qD, qB, qI⟩ := id h1
  have e9 : y 11 2 = μ 0 0 := q0.1
  refine ⟨μ 0 0, mU μ 5 3 0, fun Q hQ => ?_, fun Q hQ => ?_⟩
  · unfold wp_X1_time
    refine ⟨hA, hF, (y, L), hH, ?_⟩
    show Q (y 11 2) σ
    rw [e9]
    exact hQ σ (hR.thr 0)
  · unfold wp_X6_time
    intro σ1 es
    rw [zc0, es, mU53 (by decide)]
    exact ⟨zv0, hQ⟩
theorem sim_breathed (hR : RO T x out σ.1 σ.2.1 μ) (hκ : σ.2.2.1 = 5000) (hN : σ.2.2.2.1 = 0) : SimN T x out (wp_X1_breathed x σ) (wp_X6_breathed μ) := by
  obtain ⟨hA, y, L, n, hF, hC, hH, h1, h2, h12, h7⟩ := hR.begin
  obtain ⟨q0, qE, qS, qG, qD, qB, qI⟩ := id h1
  have e9 : y 11 10 = μ 0 12 := q0.2.2.2.2.2.2.2.2.2.1
  refine ⟨μ 0 12, mU μ 5 3 0, fun Q hQ => ?_, fun Q hQ => ?_⟩
  · unfold wp_X1_breathed
    refine ⟨hA, hF, (y, L), hH, ?_⟩
    show Q (y 11 10) σ
    rw [e9]
    exact hQ σ (hR.thr 0)
  · unfold wp_X6_breathed
    intro σ1 es
    rw [zc12, es, mU53 (by decide)]
    exact ⟨zv12, hQ⟩
theorem sim_sprays (hR : RO T x out σ.1 σ.2.1 μ) (hκ : σ.2.2.1 = 5000) (hN : σ.2.2.2.1 = 0) : SimN T x out (wp_X1_sprays x σ) (wp_X6_sprays μ) := by
  obtain ⟨hA, y, L, n, hF, hC, hH, h1, h2, h12, h7⟩ := hR.begin
  obtain ⟨q0, qE, qS, qG, qD, qB, qI⟩ := id h1
  have e9 : y 11 11 = μ 0 13 := q0.2.2.2.2.2.2.2.2.2.2
  refine ⟨μ 0 13, mU μ 5 3 0, fun Q hQ => ?_, fun Q hQ => ?_⟩
  · unfold wp_X1_sprays
    refine ⟨hA, hF, (y, L), hH, ?_⟩
    show Q (y 11 11) σ
    rw [e9]
    exact hQ σ (hR.thr 0)
  · unfold wp_X6_sprays
    intro σ1 es
    rw [zc13, es, mU53 (by decide)]
    exact ⟨zv13, hQ⟩
theorem sim_isLit (hR : RO T x out σ.1 σ.2.1 μ) (hκ : σ.2.2.1 = 5000) (hN : σ.2.2.2.1 = 0) : SimN T x out (wp_X1_isLit x σ) (wp_X6_isLit μ) := by
  obtain ⟨hA, y, L, n, hF, hC, hH, h1, h2, h12, h7⟩ := hR.begin
  obtain ⟨q0, qE, qS, qG, qD, qB, qI⟩ := id h1
  have e9 : y 11 3 = μ 0 1 := q0.2.1
  have i1 := qI.2.2.1
  refine ⟨μ 0 1, mU μ 5 3 0, fun Q hQ => ?_, fun Q hQ => ?_⟩
  · unfold wp_X1_isLit
    refine ⟨hA, hF, (y, L), hH, h1.lit, ?_⟩
    show Q (y 11 3) σ
    rw [e9]
    exact hQ σ (hR.thr 0)
  · unfold wp_X6_isLit
    intro σ1 es
    rw [zc1, es, mU53 (by decide)]
    refine ⟨zv1, fun c => ?_, fun c => ?_⟩
    · rw [i1.resolve_right c] at hQ; exact hQ
    · rw [c] at hQ; exact hQ
theorem sim_charge (hR : RO T x out σ.1 σ.2.1 μ) (hκ : σ.2.2.1 = 5000) (hN : σ.2.2.2.1 = 0) : SimN T x out (wp_X1_charge x σ) (wp_X6_charge μ) := by
  obtain ⟨hA, y, L, n, hF, hC, hH, h1, h2, h12, h7⟩ := hR.begin
  obtain ⟨q0, qE, qS, qG, qD, qB, qI⟩ := id h1
  refine ⟨zwgt (μ 0) n 4, mU μ 5 3 0, fun Q hQ => ?_, fun Q hQ => ?_⟩
  · unfold wp_X1_charge
    refine ⟨hA, hF, (y, L), hH, x2_weightIn (s := (y, L, σ.2.2.1)) h1.lots qE h12 (fun σ5 e5 => ?_)⟩
    rw [oHc_same (w := (y, L)) hN hH] at e5
    rw [e5]
    exact hQ σ (hR.thr 0)
  · unfold wp_X6_charge
    intro σ1 es
    subst es
    exact x6_weightIn (n := n) (by rw [mU53 (by decide)]; exact h7) h12 (by rw [mU53 (by decide)]; exact hQ)
theorem sim_entries (hR : RO T x out σ.1 σ.2.1 μ) (hκ : σ.2.2.1 = 5000) (hN : σ.2.2.2.1 = 0) : SimN T x out (wp_X1_entries x σ) (wp_X6_entries μ) := by
  obtain ⟨hA, y, L, n, hF, hC, hH, h1, h2, h12, h7⟩ := hR.begin
  obtain ⟨q0, qE, qS, qG, qD, qB, qI⟩ := id h1
  obtain ⟨g1, g2, g3⟩ := qB
  refine ⟨nI L.length, mU μ 5 3 0, fun Q hQ => ?_, fun Q hQ => ?_⟩
  · unfold wp_X1_entries
    refine ⟨hA, hF, (y, L), hH, fun b3 hb3 σ4 e4 => ⟨fun c => ?_, fun r5 c => ?_⟩⟩
    · have eL : L = [] := hb3.1 c
      have e0 : nI L.length = 0 := by rw [eL]; rfl
      rw [e0] at hQ
      rw [e4]
      exact hQ _ (hR.thr 0)
    · subst e4
      have hne : L ≠ [] := fun q => by rw [hb3.2 q] at c; cases c
      refine ⟨hA, hF, (y, L), hH, fun b9 hb9 σ10 e10 => ?_⟩
      rcases b9 with _ | r11
      · exact absurd (hb9.1 rfl) hne
      · refine ⟨r11, rfl, L, ?_, hne, g1, ?_⟩
        · rw [e10]
          exact List.mem_cons_self
        · rw [e10]
          exact hQ _ (hR.thr 0)
  · unfold wp_X6_entries
    intro σ1 es
    rw [zc14, es, mU53 (by decide), g2]
    exact ⟨zv14, hQ⟩
/-! accounts -/
theorem kernels_L {kx : Int32 → Int32 → Prop} {hA : Nat} {y : MS} {L : List Int32} (hF : oF σ x 0 0 (.ref hA)) (hH : σ.2.1 hA = some (y, L)) (hn : y 11 1 = nI n) (hE : EL y z n) (h12 : n ≤ 12) (h : kx (sM z 2 n) (nI n)) : ∀ m F k, k + m = n → m < F → wp_X1_kernelsIn_L4 kx σ x 5 F (sM z 2 k) (nI k) := by
  intro m
  induction m with
  | zero =>
    intro F k e hF'
    obtain ⟨F, rfl⟩ := fpos hF'
    obtain rfl : k = n := by omega
    rw [wp_X1_kernelsIn_L4]
    refine ⟨hA, hF, (y, L), hH, fun _ => h, fun c => ?_⟩
    exact absurd (show (y, L).1 11 1 ≤ nI k by rw [show (y, L).1 11 1 = nI k from hn]; exact lp_out) c
  | succ m ih =>
    intro F k e hF'
    obtain ⟨F, rfl⟩ := fpos hF'
    have e1 := ih F (k + 1) (by omega) (by omega)
    rw [nI_succ] at e1
    rw [wp_X1_kernelsIn_L4, cl (by omega)]
    refine ⟨hA, hF, (y, L), hH, fun c => ?_, fun _ => ⟨hA, hF, (y, L), hH, (y, L), hH, vl (by omega), jnI ?_⟩⟩
    · exact absurd (show nI n ≤ nI k by rw [← hn]; exact c) (lp_in (by omega) h12)
    have e6 : (y, L).1 6 k = ofz z k 0 := (hE k (by omega)).1
    rw [e6]
    refine ⟨fun c => ?_, fun c => ⟨hA, hF, (y, L), hH, (y, L), hH, vl (by omega), ?_⟩⟩
    · have e7 : sM z 2 (k + 1) = sM z 2 k + 0 := by
        show sM z 2 k + (if ofz z k 0 = 5 then ofz z k 2 else 0) = _
        rw [if_neg c]
      rw [e7] at e1
      exact e1
    · have e7 : sM z 2 (k + 1) = sM z 2 k + (y, L).1 0 k := by
        show sM z 2 k + (if ofz z k 0 = 5 then ofz z k 2 else 0) = sM z 2 k + y 0 k
        rw [if_pos c, (hE k (by omega)).2.1]
      rw [e7] at e1
      exact e1
theorem x1_malt {hA : Nat} {y : MS} {L : List Int32} {Q : Int32 → OS → Prop} (hF : oF σ x 0 0 (.ref hA)) (hC : oC σ x 0) (hH : σ.2.1 hA = some (y, L)) (hn : y 11 1 = nI n) (hE : EL y z n) (h12 : n ≤ 12) (h : Q (sM z 2 n) σ) : wp_X1_malt x σ Q := by
  unfold wp_X1_malt
  exact ⟨hC, kernels_L (kx := fun x4 _ => Q x4 σ) hF hH hn hE h12 h n mF 0 (by omega) (by unfold mF; omega)⟩
theorem wgt5 : zwgt z n 5 = sM z 2 n + sM z 3 n := by
  show l_sum _ n = l_sum _ n + l_sum _ n
  rw [← l_sum_add]
  refine l_sum_congr n (fun j _ => ?_)
  by_cases c : ofz z j 0 = 5
  · rw [if_pos c, if_pos c, if_pos c]
  · rw [if_neg c, if_neg c, if_neg c]
    rfl
theorem x1_culms {hA : Nat} {y : MS} {L : List Int32} {Q : Int32 → OS → Prop} (hN : σ.2.2.2.1 = 0) (hF : oF σ x 0 0 (.ref hA)) (hC : oC σ x 0) (hH : σ.2.1 hA = some (y, L)) (hn : y 11 1 = nI n) (hE : EL y z n) (h12 : n ≤ 12) (h : Q (sM z 3 n) σ) : wp_X1_culms x σ Q := by
  unfold wp_X1_culms
  refine ⟨hA, hF, (y, L), hH, x2_weightIn (s := (y, L, σ.2.2.1)) hn hE h12 (fun σ5 e5 => ?_)⟩
  rw [oHc_same (w := (y, L)) hN hH] at e5
  rw [e5]
  refine ⟨hC, kernels_L (kx := fun x4 _ => Q (zwgt z n 5 - x4) σ) hF hH hn hE h12 ?_ n mF 0 (by omega) (by unfold mF; omega)⟩
  rw [wgt5, Int32.add_comm, Int32.add_sub_cancel]
  exact h
theorem x1_spoilt {hA : Nat} {y : MS} {L : List Int32} {Q : Int32 → OS → Prop} (hN : σ.2.2.2.1 = 0) (hF : oF σ x 0 0 (.ref hA)) (hH : σ.2.1 hA = some (y, L)) (hn : y 11 1 = nI n) (hE : EL y z n) (h12 : n ≤ 12) (h : Q (zwgt z n 6) σ) : wp_X1_spoilt x σ Q := by
  unfold wp_X1_spoilt
  refine ⟨hA, hF, (y, L), hH, x2_weightIn (s := (y, L, σ.2.2.1)) hn hE h12 (fun σ5 e5 => ?_)⟩
  rw [oHc_same (w := (y, L)) hN hH] at e5
  rw [e5]
  exact h
theorem sim_malt (hR : RO T x out σ.1 σ.2.1 μ) (hκ : σ.2.2.1 = 5000) (hN : σ.2.2.2.1 = 0) : SimN T x out (wp_X1_malt x σ) (wp_X6_malt μ) := by
  obtain ⟨hA, y, L, n, hF, hC, hH, h1, h2, h12, h7⟩ := hR.begin
  obtain ⟨q0, qE, qS, qG, qD, qB, qI⟩ := id h1
  obtain ⟨-, -, -, -, -, -, -, s9, s10, s11⟩ := qI
  refine ⟨μ 0 9, mU μ 5 3 0, fun Q hQ => ?_, fun Q hQ => ?_⟩
  · rw [s9] at hQ
    exact x1_malt hF hC hH h1.lots qE h12 (hQ σ (hR.thr 0))
  · unfold wp_X6_malt
    intro σ1 es
    rw [zc9, es, mU53 (by decide)]
    exact ⟨zv9, hQ⟩
theorem sim_culms (hR : RO T x out σ.1 σ.2.1 μ) (hκ : σ.2.2.1 = 5000) (hN : σ.2.2.2.1 = 0) : SimN T x out (wp_X1_culms x σ) (wp_X6_culms μ) := by
  obtain ⟨hA, y, L, n, hF, hC, hH, h1, h2, h12, h7⟩ := hR.begin
  obtain ⟨q0, qE, qS, qG, qD, qB, qI⟩ := id h1
  obtain ⟨-, -, -, -, -, -, -, s9, s10, s11⟩ := qI
  refine ⟨μ 0 10, mU μ 5 3 0, fun Q hQ => ?_, fun Q hQ => ?_⟩
  · rw [s10] at hQ
    exact x1_culms hN hF hC hH h1.lots qE h12 (hQ σ (hR.thr 0))
  · unfold wp_X6_culms
    intro σ1 es
    rw [zc10, es, mU53 (by decide)]
    exact ⟨zv10, hQ⟩
theorem sim_spoilt (hR : RO T x out σ.1 σ.2.1 μ) (hκ : σ.2.2.1 = 5000) (hN : σ.2.2.2.1 = 0) : SimN T x out (wp_X1_spoilt x σ) (wp_X6_spoilt μ) := by
  obtain ⟨hA, y, L, n, hF, hC, hH, h1, h2, h12, h7⟩ := hR.begin
  obtain ⟨q0, qE, qS, qG, qD, qB, qI⟩ := id h1
  obtain ⟨-, -, -, -, -, -, -, s9, s10, s11⟩ := qI
  refine ⟨μ 0 11, mU μ 5 3 0, fun Q hQ => ?_, fun Q hQ => ?_⟩
  · rw [s11] at hQ
    exact x1_spoilt hN hF hH h1.lots qE h12 (hQ σ (hR.thr 0))
  · unfold wp_X6_spoilt
    intro σ1 es
    rw [zc11, es, mU53 (by decide)]
    exact ⟨zv11, hQ⟩
theorem steep_step {kx : Int32 → Int32 → OS → Prop} {hA F k : Nat} {y : MS} {L : List Int32} {a : Int32} (hN : σ.2.2.2.1 = 0) (hF : oF σ x 0 0 (.ref hA)) (hH : σ.2.1 hA = some (y, L)) (hn : y 11 1 = nI n) (hE : EL y z n) (h12 : n ≤ 12) (hk : k < 5) (h : wp_X1_steeped_L34 kx x F (a + zwgt z n (nI k)) (nI (k + 1)) σ) : wp_X1_steeped_L34 kx x (F + 1) a (nI k) σ := by
  rw [wp_X1_steeped_L34]
  refine ⟨fun c => absurd c (nI_nlt (a := 4) (b := k) (by omega) (by decide)), fun _ => ⟨hA, hF, (y, L), hH, x2_weightIn (s := (y, L, σ.2.2.1)) hn hE h12 (fun σ5 e5 => ?_)⟩⟩
  rw [oHc_same (w := (y, L)) hN hH] at e5
  rw [e5, ← nI_succ]
  exact h
theorem sim_steeped (hR : RO T x out σ.1 σ.2.1 μ) (hκ : σ.2.2.1 = 5000) (hN : σ.2.2.2.1 = 0) : SimN T x out (wp_X1_steeped x p σ) (wp_X6_steeped p μ) := by
  obtain ⟨hA, y, L, n, hF, hC, hH, h1, h2, h12, h7⟩ := hR.begin
  obtain ⟨q0, qE, qS, qG, qD, qB, qI⟩ := id h1
  obtain ⟨-, -, -, -, -, -, -, s9, s10, s11⟩ := qI
  have hn := h1.lots
  by_cases c : p = 0
  · have e9 : y 11 9 = μ 0 8 := q0.2.2.2.2.2.2.2.2.1
    refine ⟨μ 0 8, mU μ 5 3 0, fun Q hQ => ?_, fun Q hQ => ?_⟩
    · unfold wp_X1_steeped
      refine ⟨fun d => absurd c d, fun _ => ⟨hA, hF, (y, L), hH, ?_⟩⟩
      show Q (y 11 9) σ
      rw [e9]
      exact hQ σ (hR.thr 0)
    · unfold wp_X6_steeped
      intro σ1 es
      rw [zc8, es, mU53 (by decide)]
      exact ⟨fun _ => ⟨zv8, hQ⟩, fun d => absurd c d⟩
  · refine ⟨(((((((μ 0 9 + μ 0 10) + μ 0 11) + μ 0 12) + zwgt (μ 0) n 1) + zwgt (μ 0) n 2) + zwgt (μ 0) n 3) + zwgt (μ 0) n 4), mU μ 5 3 0, fun Q hQ => ?_, fun Q hQ => ?_⟩
    · unfold wp_X1_steeped
      refine ⟨fun _ => ⟨hC, x1_malt hF hC hH hn qE h12 ⟨hC, x1_culms hN hF hC hH hn qE h12 ⟨hC, x1_spoilt hN hF hH hn qE h12 ⟨hC, ?_⟩⟩⟩⟩, fun d => absurd d c⟩
      unfold wp_X1_breathed
      refine ⟨hA, hF, (y, L), hH, fun x10 e10 => jnI ?_⟩
      have e11 : x10 = ((μ 0 9 + μ 0 10) + μ 0 11) + μ 0 12 := by
        rw [e10, s9, s10, s11]
        show _ + y 11 10 = _
        rw [q0.2.2.2.2.2.2.2.2.2.1]
      rw [e11]
      refine steep_step (F := 999) (k := 1) hN hF hH hn qE h12 (by decide) (steep_step (F := 998) (k := 2) hN hF hH hn qE h12 (by decide) (steep_step (F := 997) (k := 3) hN hF hH hn qE h12 (by decide) (steep_step (F := 996) (k := 4) hN hF hH hn qE h12 (by decide) ?_)))
      show wp_X1_steeped_L34 _ x (995 + 1) _ _ _
      rw [wp_X1_steeped_L34]
      exact ⟨fun _ => hQ σ (hR.thr 0), fun d => absurd (by decide : (4 : Int32) < nI 5) d⟩
    · unfold wp_X6_steeped
      intro σ1 es
      subst es
      have hz : (mU μ 5 3 0) 0 = μ 0 := mU53 (by decide)
      have h7' : (mU μ 5 3 0) 0 7 = nI n := by rw [hz]; exact h7
      refine ⟨fun d => absurd d c, fun _ => ⟨zv9, zv10, zv11, zv12, x6_weightIn h7' h12 (x6_weightIn h7' h12 (x6_weightIn h7' h12 (x6_weightIn h7' h12 ?_)))⟩⟩
      rw [zc9, zc10, zc11, zc12, hz]
      exact hQ
/-! means -/
def gSum (z : Zz) (n : Nat) : Int32 := l_sum (fun j => if ofz z j 0 = 2 ∨ ofz z j 0 = 3 then ofz z j 6 else 0) n
def gCnt (z : Zz) (n : Nat) : Int32 := l_sum (fun j => if ofz z j 0 = 2 ∨ ofz z j 0 = 3 then 1 else 0) n
theorem gSum_p {k : Nat} (c : ofz z k 0 = 2 ∨ ofz z k 0 = 3) : gSum z (k + 1) = gSum z k + ofz z k 6 ∧ gCnt z (k + 1) = gCnt z k + 1 := by
  constructor
  · show gSum z k + (if ofz z k 0 = 2 ∨ ofz z k 0 = 3 then ofz z k 6 else 0) = _
    rw [if_pos c]
  · show gCnt z k + (if ofz z k 0 = 2 ∨ ofz z k 0 = 3 then 1 else 0) = _
    rw [if_pos c]
theorem gSum_n {k : Nat} (c : ¬ (ofz z k 0 = 2 ∨ ofz z k 0 = 3)) : gSum z (k + 1) = gSum z k + 0 ∧ gCnt z (k + 1) = gCnt z k + 0 := by
  constructor
  · show gSum z k + (if ofz z k 0 = 2 ∨ ofz z k 0 = 3 then ofz z k 6 else 0) = _
    rw [if_neg c]
  · show gCnt z k + (if ofz z k 0 = 2 ∨ ofz z k 0 = 3 then 1 else 0) = _
    rw [if_neg c]
theorem gCnt_eq : zcnt z n 2 + zcnt z n 3 = gCnt z n := by
  show l_sum _ n + l_sum _ n = l_sum _ n
  rw [← l_sum_add]
  refine l_sum_congr n (fun j _ => ?_)
  by_cases c2 : ofz z j 0 = 2
  · rw [if_pos c2, if_pos (Or.inl c2), if_neg (by rw [c2]; decide)]
    rfl
  · rw [if_neg c2]
    by_cases c3 : ofz z j 0 = 3
    · rw [if_pos c3, if_pos (Or.inr c3)]
      rfl
    · rw [if_neg c3, if_neg (fun q => q.elim c2 c3)]
      rfl
theorem cnt23 (z : Zz) : ∀ n, cntN z 2 n + cntN z 3 n ≤ n
  | 0 => Nat.le_refl _
  | n + 1 => by
    have h := cnt23 z n
    rw [cntN, cntN]
    by_cases c2 : ofz z n 0 = 2
    · rw [if_pos c2, if_neg (by rw [c2]; decide)]
      omega
    · rw [if_neg c2]
      split <;> omega
theorem grow_L {kx : Int32 → Int32 → Prop} {hA : Nat} {y : MS} {L : List Int32} (hF : oF σ x 0 0 (.ref hA)) (hH : σ.2.1 hA = some (y, L)) (hn : y 11 1 = nI n) (hE : EL y z n) (h12 : n ≤ 12) (h : kx (sM z 5 n) (nI n)) : ∀ m F k, k + m = n → m < F → wp_X1_meanGrowth_L16 kx σ x F (sM z 5 k) (nI k) := by
  intro m
  induction m with
  | zero =>
    intro F k e hF'
    obtain ⟨F, rfl⟩ := fpos hF'
    obtain rfl : k = n := by omega
    rw [wp_X1_meanGrowth_L16]
    refine ⟨hA, hF, (y, L), hH, fun _ => h, fun c => ?_⟩
    exact absurd (show (y, L).1 11 1 ≤ nI k by rw [show (y, L).1 11 1 = nI k from hn]; exact lp_out) c
  | succ m ih =>
    intro F k e hF'
    obtain ⟨F, rfl⟩ := fpos hF'
    have e1 := ih F (k + 1) (by omega) (by omega)
    rw [nI_succ] at e1
    rw [wp_X1_meanGrowth_L16, cl (by omega)]
    refine ⟨hA, hF, (y, L), hH, fun c => ?_, fun _ => ⟨hA, hF, (y, L), hH, (y, L), hH, vl (by omega), jnI ?_⟩⟩
    · exact absurd (show nI n ≤ nI k by rw [← hn]; exact c) (lp_in (by omega) h12)
    have e6 : (y, L).1 6 k = ofz z k 0 := (hE k (by omega)).1
    rw [e6]
    refine ⟨fun c => ?_, fun c => ⟨hA, hF, (y, L), hH, (y, L), hH, vl (by omega), ?_⟩⟩
    · have e7 : sM z 5 (k + 1) = sM z 5 k + 0 := by
        show sM z 5 k + (if ofz z k 0 = 5 then ofz z k 5 else 0) = _
        rw [if_neg c]
      rw [e7] at e1
      exact e1
    · have e7 : sM z 5 (k + 1) = sM z 5 k + (y, L).1 3 k := by
        show sM z 5 k + (if ofz z k 0 = 5 then ofz z k 5 else 0) = sM z 5 k + y 3 k
        rw [if_pos c, (hE k (by omega)).2.2.2.2.1]
      rw [e7] at e1
      exact e1
theorem grow_M {kx : Int32 → Int32 → MS → Prop} (hn : μ 0 7 = nI n) (h12 : n ≤ 12) (h : kx (sM (μ 0) 5 n) (nI n) μ) : ∀ m F k, k + m = n → m < F → wp_X6_meanGrowth_L15 kx F (sM (μ 0) 5 k) (nI k) μ := by
  intro m
  induction m with
  | zero =>
    intro F k e hF
    obtain ⟨F, rfl⟩ := fpos hF
    obtain rfl : k = n := by omega
    rw [wp_X6_meanGrowth_L15, zc7, hn]
    exact ⟨zv7, fun _ => h, fun c => absurd lp_out c⟩
  | succ m ih =>
    intro F k e hF
    obtain ⟨F, rfl⟩ := fpos hF
    rw [wp_X6_meanGrowth_L15, zc7, hn]
    have e1 := ih F (k + 1) (by omega) (by omega)
    rw [nI_succ] at e1
    refine ⟨zv7, fun c => absurd c (lp_in (by omega) h12), fun _ => x6_of1 (w := 0) (by omega) (by decide) (jnI ⟨fun c => ?_, fun c => x6_of1 (w := 5) (by omega) (by decide) ?_⟩)⟩
    · have e7 : sM (μ 0) 5 (k + 1) = sM (μ 0) 5 k + 0 := by
        show sM (μ 0) 5 k + (if ofz (μ 0) k 0 = 5 then ofz (μ 0) k 5 else 0) = _
        rw [if_neg c]
      rw [e7] at e1
      exact e1
    · have e7 : sM (μ 0) 5 (k + 1) = sM (μ 0) 5 k + ofz (μ 0) k 5 := by
        show sM (μ 0) 5 k + (if ofz (μ 0) k 0 = 5 then ofz (μ 0) k 5 else 0) = _
        rw [if_pos c]
      rw [e7] at e1
      exact e1
theorem sim_meanGrowth (hR : RO T x out σ.1 σ.2.1 μ) (hκ : σ.2.2.1 = 5000) (hN : σ.2.2.2.1 = 0) : SimN T x out (wp_X1_meanGrowth x σ) (wp_X6_meanGrowth μ) := by
  obtain ⟨hA, y, L, n, hF, hC, hH, h1, h2, h12, h7⟩ := hR.begin
  obtain ⟨q0, qE, qS, qG, qD, qB, qI⟩ := id h1
  have hn := h1.lots
  have hz : (mU μ 5 3 0) 0 = μ 0 := mU53 (by decide)
  have hle := cntN_le (μ 0) 5 n
  refine ⟨if zcnt (μ 0) n 5 = 0 then FP.dconst0 else FP.ddiv (FP.i2d (sM (μ 0) 5 n)) (FP.i2d (zcnt (μ 0) n 5)), mU μ 5 3 0, fun Q hQ => ?_, fun Q hQ => ?_⟩
  · unfold wp_X1_meanGrowth
    refine ⟨hA, hF, (y, L), hH, x2_set (s := (y, L, σ.2.2.1)) hn qE h12 (fun σ5 e5 => j16_bitCount ?_)⟩
    rw [oHc_same (w := (y, L)) hN hH] at e5
    rw [e5, bc_cnt _ 5 h12]
    refine jnI (grow_L (kx := _) hF hH hn qE h12 ⟨fun c => ?_, fun c => ?_⟩ n mF 0 (by omega) (by unfold mF; omega))
    · rw [if_neg c] at hQ
      refine ⟨?_, hQ σ (hR.thr 0)⟩
      rw [zcnt_N] at c ⊢
      exact mean_ok _ (by
        rcases Nat.eq_zero_or_pos (cntN (μ 0) 5 n) with q | q
        · rw [q] at c; exact absurd rfl c
        · exact q) (by omega)
    · rw [if_pos c] at hQ
      exact hQ σ (hR.thr 0)
  · unfold wp_X6_meanGrowth
    intro σ1 es
    subst es
    refine x6_countIn (n := n) (by rw [hz]; exact h7) h12 (jnI (grow_M (μ := mU μ 5 3 0) (n := n) (by rw [hz]; exact h7) h12 ?_ n mF 0 (by omega) (by unfold mF; omega)))
    rw [hz]
    refine ⟨fun c => ?_, fun c => ?_⟩
    · rw [if_neg c] at hQ
      refine ⟨?_, hQ⟩
      rw [zcnt_N] at c ⊢
      exact mean_ok _ (by
        rcases Nat.eq_zero_or_pos (cntN (μ 0) 5 n) with q | q
        · rw [q] at c; exact absurd rfl c
        · exact q) (by omega)
    · rw [if_pos c] at hQ
      exact hQ
theorem heat_L {kx : Int32 → Int32 → Int32 → OS → Prop} {hA : Nat} {y : MS} {L : List Int32} (hN : σ.2.2.2.1 = 0) (hF : oF σ x 0 0 (.ref hA)) (hH : σ.2.1 hA = some (y, L)) (hn : y 11 1 = nI n) (hE : EL y z n) (h12 : n ≤ 12) (h : kx (gSum z n) (gCnt z n) (nI n) σ) : ∀ m F k, k + m = n → m < F → wp_X1_meanHeat_L6 kx x F (gSum z k) (gCnt z k) (nI k) σ := by
  intro m
  induction m with
  | zero =>
    intro F k e hF'
    obtain ⟨F, rfl⟩ := fpos hF'
    obtain rfl : k = n := by omega
    rw [wp_X1_meanHeat_L6]
    refine ⟨hA, hF, (y, L), hH, fun _ => h, fun c => ?_⟩
    exact absurd (show (y, L).1 11 1 ≤ nI k by rw [show (y, L).1 11 1 = nI k from hn]; exact lp_out) c
  | succ m ih =>
    intro F k e hF'
    obtain ⟨F, rfl⟩ := fpos hF'
    have e1 := ih F (k + 1) (by omega) (by omega)
    rw [nI_succ] at e1
    rw [wp_X1_meanHeat_L6, cl (by omega)]
    refine ⟨hA, hF, (y, L), hH, fun c => ?_, fun _ => ⟨hA, hF, (y, L), hH, ?_⟩⟩
    · exact absurd (show nI n ≤ nI k by rw [← hn]; exact c) (lp_in (by omega) h12)
    have e4 : (y, L).1 4 k = ofz z k 6 := (hE k (by omega)).2.2.2.2.2.1
    refine x2_grow1 (s := (y, L, σ.2.2.1)) hE h12 (by omega) (fun g σ17 e17 => ?_) (fun g σ17 e17 => ?_)
    · rw [oHc_same (w := (y, L)) hN hH] at e17
      rw [e17]
      refine jnI ⟨fun c => absurd c (by decide), fun _ => ⟨hA, hF, (y, L), hH, (y, L), hH, vl (by omega), ⟨hA, hF, (y, L), hH, x2_grow1 (s := (y, L, σ.2.2.1)) hE h12 (by omega) (fun _ σ25 e25 => ?_) (fun g2 => absurd g g2)⟩⟩⟩
      rw [oHc_same (w := (y, L)) hN hH] at e25
      rw [e25, e4]
      refine jnI ⟨fun c => absurd c (by decide), fun _ => ?_⟩
      rw [(gSum_p g).1, (gSum_p g).2] at e1
      exact e1
    · rw [oHc_same (w := (y, L)) hN hH] at e17
      rw [e17]
      refine jnI ⟨fun _ => ⟨hA, hF, (y, L), hH, x2_grow1 (s := (y, L, σ.2.2.1)) hE h12 (by omega) (fun g2 => absurd g2 g) (fun _ σ25 e25 => ?_)⟩, fun c => absurd rfl c⟩
      rw [oHc_same (w := (y, L)) hN hH] at e25
      rw [e25]
      refine jnI ⟨fun _ => ?_, fun c => absurd rfl c⟩
      rw [(gSum_n g).1, (gSum_n g).2] at e1
      exact e1
theorem heat_M {kx : Int32 → Int32 → MS → Prop} (hn : μ 0 7 = nI n) (h12 : n ≤ 12) (h : kx (gSum (μ 0) n) (nI n) μ) : ∀ m F k, k + m = n → m < F → wp_X6_meanHeat_L21 kx F (gSum (μ 0) k) (nI k) μ := by
  intro m
  induction m with
  | zero =>
    intro F k e hF
    obtain ⟨F, rfl⟩ := fpos hF
    obtain rfl : k = n := by omega
    rw [wp_X6_meanHeat_L21, zc7, hn]
    exact ⟨zv7, fun _ => h, fun c => absurd lp_out c⟩
  | succ m ih =>
    intro F k e hF
    obtain ⟨F, rfl⟩ := fpos hF
    rw [wp_X6_meanHeat_L21, zc7, hn]
    have e1 := ih F (k + 1) (by omega) (by omega)
    rw [nI_succ] at e1
    refine ⟨zv7, fun c => absurd c (lp_in (by omega) h12), fun _ => x6_grow1 (by omega) (fun g => jnI ⟨fun c => absurd c (by decide), fun _ => x6_of1 (w := 6) (by omega) (by decide) ?_⟩) (fun g => jnI ⟨fun _ => ?_, fun c => absurd rfl c⟩)⟩
    · rw [(gSum_p g).1] at e1
      exact e1
    · rw [(gSum_n g).1] at e1
      exact e1
theorem gCnt_N : gCnt z n = nI (cntN z 2 n + cntN z 3 n) := by
  rw [← gCnt_eq, zcnt_N, zcnt_N, nI_add]
theorem sim_meanHeat (hR : RO T x out σ.1 σ.2.1 μ) (hκ : σ.2.2.1 = 5000) (hN : σ.2.2.2.1 = 0) : SimN T x out (wp_X1_meanHeat x σ) (wp_X6_meanHeat μ) := by
  obtain ⟨hA, y, L, n, hF, hC, hH, h1, h2, h12, h7⟩ := hR.begin
  obtain ⟨q0, qE, qS, qG, qD, qB, qI⟩ := id h1
  have hn := h1.lots
  have hz : (mU μ 5 3 0) 0 = μ 0 := mU53 (by decide)
  have hle := cnt23 (μ 0) n
  have hok : ¬ gCnt (μ 0) n = 0 → vf_n64 (FP.ddiv (FP.i2d (gSum (μ 0) n)) (FP.i2d (gCnt (μ 0) n))) := by
    intro c
    rw [gCnt_N] at c ⊢
    exact mean_ok _ (by
      rcases Nat.eq_zero_or_pos (cntN (μ 0) 2 n + cntN (μ 0) 3 n) with q | q
      · rw [q] at c; exact absurd rfl c
      · exact q) (by omega)
  refine ⟨if gCnt (μ 0) n = 0 then FP.dconst0 else FP.ddiv (FP.i2d (gSum (μ 0) n)) (FP.i2d (gCnt (μ 0) n)), mU μ 5 3 0, fun Q hQ => ?_, fun Q hQ => ?_⟩
  · unfold wp_X1_meanHeat
    refine jnI (heat_L (kx := _) hN hF hH hn qE h12 ⟨fun c => ?_, fun c => ?_⟩ n mF 0 (by omega) (by unfold mF; omega))
    · rw [if_neg c] at hQ
      exact ⟨hok c, hQ σ (hR.thr 0)⟩
    · rw [if_pos c] at hQ
      exact hQ σ (hR.thr 0)
  · unfold wp_X6_meanHeat
    intro σ1 es
    subst es
    have h7' : (mU μ 5 3 0) 0 7 = nI n := by rw [hz]; exact h7
    refine x6_countIn (n := n) h7' h12 (x6_countIn (n := n) h7' h12 (jnI (heat_M (μ := mU μ 5 3 0) (n := n) h7' h12 ?_ n mF 0 (by omega) (by unfold mF; omega))))
    rw [hz, gCnt_eq]
    refine ⟨fun c => ?_, fun c => ?_⟩
    · rw [if_neg c] at hQ
      exact ⟨hok c, hQ⟩
    · rw [if_pos c] at hQ
      exact hQ
/-! ripeness -/
theorem x1_isRiper {hA i j : Nat} {y : MS} {L : List Int32} {Q : Int32 → OS → Prop} (hF : oF σ x 0 0 (.ref hA)) (hH : σ.2.1 hA = some (y, L)) (hE : EL y z n) (h12 : n ≤ 12) (hi : i < n) (hj : j < n) (h : Q (ripV z i j) σ) : wp_X1_isRiper x (nI i) (nI j) σ Q := by
  unfold wp_X1_isRiper
  have a5 : (y, L).1 3 i = ofz z i 5 := (hE i hi).2.2.2.2.1
  have b5 : (y, L).1 3 j = ofz z j 5 := (hE j hj).2.2.2.2.1
  have a6 : (y, L).1 4 i = ofz z i 6 := (hE i hi).2.2.2.2.2.1
  have b6 : (y, L).1 4 j = ofz z j 6 := (hE j hj).2.2.2.2.2.1
  have vi : vp_in (nI i) 12 := vl (by omega)
  have vj : vp_in (nI j) 12 := vl (by omega)
  rw [cl (show i < 12 by omega), cl (show j < 12 by omega)]
  refine ⟨hA, hF, (y, L), hH, (y, L), hH, vi, hA, hF, (y, L), hH, (y, L), hH, vj, fun x7 e7 => ?_⟩
  rw [a5, b5] at e7
  unfold ripV at h
  rw [← e7] at h
  refine jn1 (if x7 = 0 then ofz z i 6 - ofz z j 6 else x7) ⟨fun c => ?_, fun c => ⟨fun c2 => ?_, fun c2 => ⟨fun c3 => ?_, fun c3 => ?_⟩⟩⟩ (fun k' hk => ⟨fun c => ⟨hA, hF, (y, L), hH, (y, L), hH, vi, hA, hF, (y, L), hH, (y, L), hH, vj, ?_⟩, fun c => ?_⟩)
  · by_cases e : x7 = 0
    · rw [if_pos e] at c
      rw [if_neg (by rw [e]; decide), if_pos e, if_pos c] at h
      exact h
    · rw [if_neg e] at c
      rw [if_pos c] at h
      exact h
  · by_cases e : x7 = 0
    · rw [if_pos e] at c c2
      rw [if_neg (by rw [e]; decide), if_pos e, if_neg c, if_neg c2] at h
      exact h
    · rw [if_neg e] at c c2
      rw [if_neg c, if_neg e] at h
      exact h
  · by_cases e : x7 = 0
    · rw [if_pos e] at c c2
      rw [if_neg (by rw [e]; decide), if_pos e, if_neg c, if_pos c2, if_pos c3] at h
      exact h
    · rw [if_neg e] at c2
      exact absurd c2 e
  · by_cases e : x7 = 0
    · rw [if_pos e] at c c2
      rw [if_neg (by rw [e]; decide), if_pos e, if_neg c, if_pos c2, if_neg c3] at h
      exact h
    · rw [if_neg e] at c2
      exact absurd c2 e
  · rw [if_pos c] at hk
    rw [a6, b6]
    exact hk
  · rw [if_neg c] at hk
    exact hk
theorem rip_L33 {kx : Int32 → Int32 → OS → Prop} {hA j : Nat} {y : MS} {L : List Int32} (hN : σ.2.2.2.1 = 0) (hF : oF σ x 0 0 (.ref hA)) (hC : oC σ x 0) (hH : σ.2.1 hA = some (y, L)) (hn : y 11 1 = nI n) (hE : EL y z n) (h12 : n ≤ 12) (hj : j < n) (h : kx (aheadV z j n) (nI n) σ) : ∀ m F k, k + m = n → m < F → wp_X1_ripest_L33 kx x (nI j) F (aheadV z j k) (nI k) σ := by
  intro m
  induction m with
  | zero =>
    intro F k e hF'
    obtain ⟨F, rfl⟩ := fpos hF'
    obtain rfl : k = n := by omega
    rw [wp_X1_ripest_L33]
    refine ⟨hA, hF, (y, L), hH, fun _ => h, fun c => ?_⟩
    exact absurd (show (y, L).1 11 1 ≤ nI k by rw [show (y, L).1 11 1 = nI k from hn]; exact lp_out) c
  | succ m ih =>
    intro F k e hF'
    obtain ⟨F, rfl⟩ := fpos hF'
    have e1 := ih F (k + 1) (by omega) (by omega)
    rw [nI_succ, aheadV] at e1
    rw [wp_X1_ripest_L33]
    refine ⟨hA, hF, (y, L), hH, fun c => ?_, fun _ => ⟨hA, hF, (y, L), hH, x2_grow1 (s := (y, L, σ.2.2.1)) hE h12 (by omega) (fun g σ37 e37 => ?_) (fun g σ37 e37 => ?_)⟩⟩
    · exact absurd (show nI n ≤ nI k by rw [← hn]; exact c) (lp_in (by omega) h12)
    · rw [oHc_same (w := (y, L)) hN hH] at e37
      rw [e37]
      rw [if_pos g] at e1
      refine jnI ⟨fun c => absurd c (by decide), fun _ => ⟨hC, x1_isRiper hF hH hE h12 (by omega) hj ⟨fun c => ?_, fun c => ?_⟩⟩⟩
      · rw [c] at e1; exact e1
      · rw [(ripV_or _ _ _).resolve_left c] at e1; exact e1
    · rw [oHc_same (w := (y, L)) hN hH] at e37
      rw [e37]
      rw [if_neg g] at e1
      exact jnI ⟨fun _ => e1, fun c => absurd rfl c⟩
theorem rip_L16 {kx : Int32 → Int32 → OS → Prop} {hA : Nat} {y : MS} {L : List Int32} (hN : σ.2.2.2.1 = 0) (hF : oF σ x 0 0 (.ref hA)) (hC : oC σ x 0) (hH : σ.2.1 hA = some (y, L)) (hn : y 11 1 = nI n) (hE : EL y z n) (h12 : n ≤ 12) (h : kx (ripestV z n p n) (nI n) σ) : ∀ m F k, k + m = n → m < F → wp_X1_ripest_L16 kx x p F (ripestV z n p k) (nI k) σ := by
  intro m
  induction m with
  | zero =>
    intro F k e hF'
    obtain ⟨F, rfl⟩ := fpos hF'
    obtain rfl : k = n := by omega
    rw [wp_X1_ripest_L16]
    refine ⟨hA, hF, (y, L), hH, fun _ => h, fun c => ?_⟩
    exact absurd (show (y, L).1 11 1 ≤ nI k by rw [show (y, L).1 11 1 = nI k from hn]; exact lp_out) c
  | succ m ih =>
    intro F k e hF'
    obtain ⟨F, rfl⟩ := fpos hF'
    have e1 := ih F (k + 1) (by omega) (by omega)
    rw [nI_succ, ripestV] at e1
    rw [wp_X1_ripest_L16]
    refine ⟨hA, hF, (y, L), hH, fun c => ?_, fun _ => jnI ?_⟩
    · exact absurd (show nI n ≤ nI k by rw [← hn]; exact c) (lp_in (by omega) h12)
    refine rip_L33 (kx := _) hN hF hC hH hn hE h12 (by omega) ?_ n mF 0 (by omega) (by unfold mF; omega)
    refine ⟨hA, hF, (y, L), hH, x2_grow1 (s := (y, L, σ.2.2.1)) hE h12 (by omega) (fun g σ37 e37 => ?_) (fun g σ37 e37 => ?_)⟩
    · rw [oHc_same (w := (y, L)) hN hH] at e37
      rw [e37]
      refine jnI ⟨fun c => absurd c (by decide), fun _ => ⟨fun c => ?_, fun c => ?_⟩⟩
      · rw [if_neg (fun z => c z.2)] at e1; exact e1
      · rw [if_pos ⟨g, c⟩] at e1; exact e1
    · rw [oHc_same (w := (y, L)) hN hH] at e37
      rw [e37]
      rw [if_neg (fun z => g z.1)] at e1
      exact jnI ⟨fun _ => e1, fun c => absurd rfl c⟩
theorem sim_ripest (hR : RO T x out σ.1 σ.2.1 μ) (hκ : σ.2.2.1 = 5000) (hN : σ.2.2.2.1 = 0) : Sim T x out (wp_X1_ripest x p σ) (wp_X6_ripest p μ) cd1 := by
  obtain ⟨hA, y, L, n, hF, hC, hH, h1, h2, h12, h7⟩ := hR.begin
  obtain ⟨q0, qE, qS, qG, qD, qB, qI⟩ := id h1
  by_cases c1 : p < 0
  · refine Or.inr ⟨1, 0, mU μ 5 3 1, by decide, fun Q X hX => ?_, fun Q hQ => ?_, mU_us⟩
    · unfold wp_X1_ripest
      exact jnI ⟨fun _ => ⟨fun d => absurd rfl d, fun _ => ⟨by omega, hX (oXs σ 0) (hR.thr 1)⟩⟩, fun d => absurd c1 d⟩
    · unfold wp_X6_ripest
      exact jnI ⟨fun _ => goes1 rfl ⟨fun d => absurd rfl d, fun _ => hQ⟩, fun d => absurd c1 d⟩
  · have hz : (mU μ 5 3 0) 0 = μ 0 := mU53 (by decide)
    refine Or.inl ⟨ripestV (μ 0) n p n, mU μ 5 3 0, fun Q X hQ => ?_, fun Q hQ => ?_, mU_us⟩
    · unfold wp_X1_ripest
      refine jnI ⟨fun d => absurd d c1, fun _ => ⟨fun _ => jnI ?_, fun d => absurd d (by decide)⟩⟩
      exact rip_L16 (kx := fun x9 _ σ11 => Q x9 σ11) hN hF hC hH h1.lots qE h12 (hQ σ (hR.thr 0)) n mF 0 (by omega) (by unfold mF; omega)
    · unfold wp_X6_ripest
      refine jnI ⟨fun d => absurd d c1, fun _ => goesY (by decide) (by decide) ⟨fun _ => jnI ?_, fun d => absurd d (by decide)⟩⟩
      have h7' : (mU μ 5 3 0) 0 7 = nI n := by rw [hz]; exact h7
      exact x6_ripest_L23 (kx := fun x11 _ σ13 => Q x11 σ13) (σ := mU μ 5 3 0) h7' h12 (by rw [hz]; exact hQ) n mF 0 (by omega) (by unfold mF; omega)
end LN
