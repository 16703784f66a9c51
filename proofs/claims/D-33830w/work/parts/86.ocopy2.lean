set_option maxRecDepth 100000
/-! PLAIN: a house is copied, 2 -/
section CP2
variable {σ0 σ : OS} {κ a m : Nat} {B : List (Option Nat × List Int32)} {fs : List Value} {g g' : Nat → aE}
/-- a field of another cell is set -/
theorem c_putC {i k ci : Nat} {v : Value} {vs : List Value} {K : OS → Prop} (h : CB σ0 κ B σ a m fs g) (hi : i < m) (hg : g i = .inr (ci, vs)) (hk : k < vs.length) (kk : ∀ σ', CB σ0 κ B σ' a m fs (fun q => if q = i then .inr (ci, vs.set k v) else g q) → K σ') : ∃ fs4 : List Value, σ.1 (a + 1 + i) = some (.inr (ci, fs4)) ∧ k < fs4.length ∧ ∀ σ3 : OS, σ3 = (oPut σ (a + 1 + i) (.inr (ci, fs4.set k v))) → K σ3 :=
  ⟨vs, by rw [h.2.1 i hi, hg], hk, fun σ3 e => kk σ3 (by rw [e]; exact h.cell hi)⟩
theorem CB.bk {b : Option Nat} {L : List Int32} (h : CB σ0 κ B σ a m fs g) : CB σ0 κ ((b, L) :: B) (oBk σ b L) a m fs g := by
  obtain ⟨a1, a2, a3, a4, a5, a6, a7⟩ := h
  exact ⟨a1, a2, a3, a4, a5, a6, congrArg ((b, L) :: ·) a7⟩
theorem c_putB {i : Nat} {v : Value} {P1 P2 : Prop} {K : OS → Prop} (h : CB σ0 κ B σ a m fs g) (hi : i < fs.length) (p1 : P1) (p2 : P2) (k : ∀ σ', CB σ0 κ B σ' a m (fs.set i v) g → K σ') : ∃ fs4 : List Value, σ.1 a = some (.inr (1, fs4)) ∧ i < fs4.length ∧ P1 ∧ P2 ∧ ∀ σ3 : OS, σ3 = (oPut σ a (.inr (1, fs4.set i v))) → K σ3 :=
  ⟨fs, h.1, hi, p1, p2, fun σ3 e => k σ3 (by rw [e]; exact h.put)⟩
theorem c_drum {p i d : Nat} {w : MS × List Int32} {Q : OS → Prop} (h : CB σ0 κ B σ a m fs g) (hi : i < m) (hg : g i = .inr (3, [.int 0, .int 0, .int 0, .int 0])) (hw : σ0.2.1 p = some w) (hd : d < 4) (kk : ∀ σ', CB σ0 κ B σ' a m fs (fun q => if q = i then hDr w.1 d else g q) → Q σ') : wp_X5_init_2 (a + 1 + i) p d σ Q := by
  have hw' : ∀ {κ' m' fs' g' σ'}, CB σ0 κ' B σ' a m' fs' g' → σ'.2.1 p = some w := fun h => by rw [h.2.2.2.1]; exact hw
  unfold wp_X5_init_2
  refine c_putC h hi hg (by simp) (fun σ1 h1 => ⟨w, hw' h1, hd, ?_⟩)
  refine c_putC h1 hi (if_pos rfl) (by simp) (fun σ2 h2 => ⟨w, hw' h2, hd, ?_⟩)
  refine c_putC h2 hi (if_pos rfl) (by simp) (fun σ3 h3 => ⟨w, hw' h3, hd, ?_⟩)
  refine c_putC h3 hi (if_pos rfl) (by simp) (fun σ4 h4 => ⟨w, hw' h4, hd, ?_⟩)
  refine c_putC h4 hi (if_pos rfl) (by simp) (fun σ5 h5 => kk σ5 (h5.congr (fun q _ => ?_)))
  by_cases c : q = i
  · rw [if_pos c]
    exact (if_pos c).symm
  · simp only [if_neg c]
theorem c_heap {Q : Nat → OS → Prop} (h : CB σ0 κ B σ a m fs g) (hκ : 1 ≤ κ) (kk : ∀ σ', CB σ0 (κ - 1) B σ' a (m + 1) fs (fun q => if q = m then .inr (2, [.int 0]) else g q) → Q (a + 1 + m) σ') : wp_X3_heap σ Q := by
  unfold wp_X3_heap
  refine ⟨by rw [h.2.2.2.2.1]; exact hκ, fun q1 _ hq σ2 e2 => ?_⟩
  obtain ⟨eq, hN⟩ := h.new (c := 1) (e := .inr (2, [.int 0])) hq
  subst eq
  subst e2
  unfold wp_X4_init wp_J0_init
  refine c_putC hN (by omega) (if_pos rfl) (by simp) (fun σ3 h3 => kk σ3 (h3.congr (fun q _ => ?_)))
  by_cases c : q = m
  · rw [if_pos c]
    exact (if_pos c).symm
  · simp only [if_neg c]
def fD (a k : Nat) : Nat → Option Nat := fun d => if d < k then some (a + 9 + (1 + d)) else none
def gD (a k : Nat) : aE := .inl (4, 4, .inr (.inr (.inr (.inr (fD a k)))))
theorem fD_up {k : Nat} : va_up (fD a k) k (some (a + 1 + (9 + k))) = fD a (k + 1) := by
  funext d
  unfold va_up fD
  by_cases e : d = k
  · subst e
    rw [if_pos rfl, if_pos (by omega), show a + 1 + (9 + d) = a + 9 + (1 + d) by omega]
  · rw [if_neg e]
    by_cases c : d < k
    · rw [if_pos c, if_pos (by omega)]
    · rw [if_neg c, if_neg (by omega)]
theorem c_L199 {kx : Int32 → OS → Prop} {p n : Nat} {w : MS × List Int32} (hw : σ0.2.1 p = some w) (hfs : fsOk a fs) (h : ∀ σ', CB σ0 κ B σ' a 13 fs (gK w.1 n (gD a 4)) → kx (nI 4) σ') : ∀ d F k σ, k + d = 4 → d < F → CB σ0 (κ + d) B σ a (9 + k) fs (gK w.1 n (gD a k)) → wp_X2_init_2_L199 kx a p F (nI k) σ := by
  intro d
  induction d with
  | zero =>
    intro F k σ e hF hC
    obtain ⟨F, rfl⟩ := fpos hF
    obtain rfl : k = 4 := by omega
    rw [wp_X2_init_2_L199]
    exact ⟨fun _ => h σ hC, fun c => absurd (lp_out : (4 : Int32) ≤ nI 4) c⟩
  | succ d ih =>
    intro F k σ e hF hC
    obtain ⟨F, rfl⟩ := fpos hF
    rw [wp_X2_init_2_L199]
    have hk : k < 4 := by omega
    refine ⟨fun c => lp_x 4 (by omega) (by decide) c, fun _ => ⟨a + 1 + 7, ⟨fs, hC.1, hfs.2 7 (by decide)⟩, ?_⟩⟩
    refine ⟨by rw [hC.2.2.2.2.1]; omega, fun q98 _ hq σ99 e99 => ?_⟩
    obtain ⟨eq, hN⟩ := hC.new (c := 1) (e := .inr (3, [.int 0, .int 0, .int 0, .int 0])) hq
    subst eq
    subst e99
    have hw' : ∀ {κ' m' fs' g' σ'}, CB σ0 κ' B σ' a m' fs' g' → σ'.2.1 p = some w := fun h => by rw [h.2.2.2.1]; exact hw
    refine ⟨w, hw' hN, w, hw' hN, vd hk, ?_⟩
    rw [cd hk]
    refine c_drum hN (by omega) (if_pos rfl) hw hk (fun σ102 h102 => ?_)
    have e7 : σ102.1 (a + 1 + 7) = some (gD a k) := by
      rw [h102.2.1 7 (by omega)]
      simp only [if_neg (show ¬ 7 = 9 + k by omega)]
      rfl
    refine ⟨4, fD a k, e7, vd hk, ⟨_, h102.2.1 (9 + k) (by omega) |>.trans (congrArg some (if_pos rfl))⟩, fun σ103 e103 => ?_⟩
    rw [fD_up] at e103
    have h103 := h102.cell (i := 7) (e := gD a (k + 1)) (by omega)
    have e104 : oPut σ102 (a + 1 + 7) (gD a (k + 1)) = σ103 := e103.symm
    rw [e104] at h103
    have e1 := ih F (k + 1) σ103 (by omega) (by omega) (by
      rw [show κ + (d + 1) - 1 = κ + d by omega] at h103
      refine h103.congr (fun i hi => ?_)
      by_cases c7 : i = 7
      · subst c7
        rfl
      · rw [if_neg c7]
        by_cases c9 : i = 9 + k
        · rw [if_pos c9, c9]
          unfold gK
          rw [if_neg (by omega), if_neg (by omega), if_neg (by omega), show 9 + k - 9 = k by omega]
        · rw [if_neg c9, if_neg c9]
          unfold gK
          by_cases c0 : i < 7
          · rw [if_pos c0, if_pos c0]
          · rw [if_neg c0, if_neg c0, if_neg c7, if_neg c7])
    rw [nI_succ] at e1
    exact e1
abbrev hNul : List Value := [.null, .null, .null, .null, .null, .null, .null, .null, .null, .null, .int 0, .int 0, .int 0, .int 0, .int 0, .int 0, .int 0, .int 0, .int 0, .int 0, .int 0, .int 0]
def tab (F : Nat → Value) : List Value := [F 0, F 1, F 2, F 3, F 4, F 5, F 6, F 7, F 8, F 9, F 10, F 11, F 12, F 13, F 14, F 15, F 16, F 17, F 18, F 19, F 20, F 21]
theorem tab_set {F : Nat → Value} {i : Nat} {v : Value} (hi : i < 22) : (tab F).set i v = tab (va_up F i v) := by
  rcases i with _ | _ | _ | _ | _ | _ | _ | _ | _ | _ | _ | _ | _ | _ | _ | _ | _ | _ | _ | _ | _ | _ | i <;> first | rfl | omega
theorem tab_get {F : Nat → Value} {i : Nat} (hi : i < 22) : (tab F)[i]? = some (F i) := by
  rcases i with _ | _ | _ | _ | _ | _ | _ | _ | _ | _ | _ | _ | _ | _ | _ | _ | _ | _ | _ | _ | _ | _ | i <;> first | rfl | omega
theorem tab_ok {F : Nat → Value} (h : ∀ i, i < 8 → F i = .ref (a + 1 + i)) : fsOk a (tab F) := ⟨rfl, fun i hi => by rw [tab_get (by omega), h i hi]⟩
section CT2
variable {F : Nat → Value}
theorem c_putT {i : Nat} {v : Value} {K : OS → Prop} (h : CB σ0 κ B σ a m (tab F) g) (hi : i < 22) (k : ∀ σ', CB σ0 κ B σ' a m (tab (va_up F i v)) g → K σ') : ∃ fs4 : List Value, σ.1 a = some (.inr (1, fs4)) ∧ i < fs4.length ∧ ∀ σ3 : OS, σ3 = (oPut σ a (.inr (1, fs4.set i v))) → K σ3 :=
  c_put h hi (fun σ' h' => k σ' (by rw [tab_set hi] at h'; exact h'))
theorem c_newT {i c : Nat} {e : aE} {K : Nat → OS → Prop} (h : CB σ0 κ B σ a m (tab F) g) (hc : c ≤ κ) (hi : i < 22) (k : ∀ σ', CB σ0 (κ - c) B σ' a (m + 1) (tab (va_up F i (.ref (a + 1 + m)))) (fun k => if k = m then e else g k) → K (a + 1 + m) σ') : c ≤ σ.2.2.1 ∧ ∀ q1 : Nat, oFr σ q1 → (σ.2.2.2.1 ≠ 0 → q1 = σ.2.2.2.1) → ∀ σ2 : OS, σ2 = oNew σ q1 c e → (∃ fs4 : List Value, σ2.1 a = some (.inr (1, fs4)) ∧ i < fs4.length ∧ ∀ σ3 : OS, σ3 = (oPut σ2 a (.inr (1, fs4.set i (.ref q1)))) → K q1 σ3) :=
  c_new h hc hi (fun σ' h' => k σ' (by rw [tab_set hi] at h'; exact h'))
theorem c_scT {p i j : Nat} {w : MS × List Int32} {K : OS → Prop} (h : CB σ0 κ B σ a m (tab F) g) (hw : σ0.2.1 p = some w) (hi : i < 22) (k : ∀ σ', CB σ0 κ B σ' a m (tab (va_up F i (.int (w.1 11 j)))) g → K σ') : ∃ w4 : MS × List Int32, σ.2.1 p = some w4 ∧ (∃ fs4 : List Value, σ.1 a = some (.inr (1, fs4)) ∧ i < fs4.length ∧ ∀ σ3 : OS, σ3 = (oPut σ a (.inr (1, fs4.set i (.int (w4.1 11 j))))) → K σ3) :=
  c_sc h hw hi (fun σ' h' => k σ' (by rw [tab_set hi] at h'; exact h'))
theorem c_putBT {i : Nat} {v : Value} {P1 P2 : Prop} {K : OS → Prop} (h : CB σ0 κ B σ a m (tab F) g) (hi : i < 22) (p1 : P1) (p2 : P2) (k : ∀ σ', CB σ0 κ B σ' a m (tab (va_up F i v)) g → K σ') : ∃ fs4 : List Value, σ.1 a = some (.inr (1, fs4)) ∧ i < fs4.length ∧ P1 ∧ P2 ∧ ∀ σ3 : OS, σ3 = (oPut σ a (.inr (1, fs4.set i v))) → K σ3 :=
  c_putB h hi p1 p2 (fun σ' h' => k σ' (by rw [tab_set hi] at h'; exact h'))
end CT2
def fNul : Nat → Value := fun i => if i < 10 then .null else .int 0
theorem x2_copy {σ2 : OS} {q1 r n : Nat} {w : MS × List Int32} {K : OS → Prop} (hf : oFr σ q1) (e2 : σ2 = oNew σ q1 3 (.inr (1, hNul))) (hw : σ.2.1 r = some w) (hn : w.1 11 1 = nI n) (h12 : n ≤ 12) (hlit : w.1 11 3 = 0 ∨ w.1 11 3 = 1) (hκ : 30 ≤ σ.2.2.1) (h : ∀ σ5 : OS, (∀ q e, σ.1 q = some e → σ5.1 q = some e) → σ5.2.1 = (fun q => if q = q1 then some (cpY w.1 n, w.2) else σ.2.1 q) → σ.2.2.1 ≤ σ5.2.2.1 + 30 → σ5.2.2.2.1 = 0 → K σ5) : wp_X2_init_2 q1 r σ2 (fun σ4 => (∃ (y : MS) (L : List Int32), oHouse σ4 q1 y L ∧ ∀ σ5 : OS, σ5 = oFold σ4 q1 y L → K σ5)) := by
  have h0 : CB σ (σ.2.2.1 - 3) σ.2.2.2.2 σ2 q1 0 (tab fNul) (fun _ => .inr (0, [])) := by
    rw [e2]
    refine ⟨a_up_self, fun i hi => absurd hi (Nat.not_lt_zero _), fun q e hq => ⟨hf.1 q e hq, ?_⟩, rfl, rfl, rfl, rfl⟩
    show a_up σ.1 q1 _ q = _
    have := hf.1 q e hq
    rw [a_up_ne (by omega)]
    exact hq
  unfold wp_X2_init_2
  refine c_newT (i := 0) h0 (by omega) (by decide) (fun s1 h1 => ?_)
  refine c_newT (i := 1) h1 (by omega) (by decide) (fun s2 h2 => ?_)
  refine c_newT (i := 2) h2 (by omega) (by decide) (fun s3 h3 => ?_)
  refine c_newT (i := 3) h3 (by omega) (by decide) (fun s4 h4 => ?_)
  refine c_newT (i := 4) h4 (by omega) (by decide) (fun s5 h5 => ?_)
  refine c_newT (i := 5) h5 (by omega) (by decide) (fun s6 h6 => ?_)
  refine c_newT (i := 6) h6 (by omega) (by decide) (fun s7 h7 => ?_)
  refine c_newT (i := 7) h7 (by omega) (by decide) (fun s8 h8 => ?_)
  refine c_heap h8 (by omega) (fun s9 h9 => ?_)
  refine c_putT h9 (by decide) (fun s10 h10 => ?_)
  refine c_putT h10 (by decide) (fun s11 h11 => ?_)
  refine c_putT h11 (by decide) (fun s12 h12' => ?_)
  refine c_putT h12' (by decide) (fun s13 h13 => ?_)
  refine c_putT h13 (by decide) (fun s14 h14 => ?_)
  refine jnI (c_L99 (p := r) (n := n) (w := w) (gD := gD q1 0) hw hn h12 (tab_ok (fun i hi => by rcases i with _ | _ | _ | _ | _ | _ | _ | _ | i <;> first | rfl | omega)) (fun s15 h15 => ?_) n mF 0 s14 (by omega) (by unfold mF; omega) (h14.congr (fun i hi => ?_)))
  · have e3 : σ.2.2.1 - 3 - 2 - 2 - 2 - 2 - 2 - 2 - 2 - 1 - 1 = σ.2.2.1 - 23 + 4 := by omega
    rw [e3] at h15
    refine jnI ?_
    refine c_L199 (κ := σ.2.2.1 - 23) (p := r) (n := n) (w := w) hw (tab_ok (fun i hi => by rcases i with _ | _ | _ | _ | _ | _ | _ | _ | i <;> first | rfl | omega)) (fun s16 h16 => ?_) 4 mF 0 s15 (by omega) (by unfold mF; omega) h15
    · have hw' : ∀ {κ' B' m' fs' g' σ'}, CB σ κ' B' σ' q1 m' fs' g' → σ'.2.1 r = some w := fun h => by rw [h.2.2.2.1]; exact hw
      refine ⟨w, hw' h16, fun b hb s17 e17 => ?_⟩
      have h17 := h16.bk (b := b) (L := w.2)
      rw [← e17] at h17
      refine c_putT h17 (by decide) (fun s18 h18 => ?_)
      refine c_scT h18 hw (by decide) (fun s19 h19 => ?_)
      refine c_scT h19 hw (by decide) (fun s20 h20 => ?_)
      refine c_scT h20 hw (by decide) (fun s21 h21 => ?_)
      refine ⟨w, hw' h21, c_putBT h21 (by decide) (narrow_bool hlit) (by rcases hlit with q | q <;> rw [q] <;> rfl) (fun s22 h22 => ?_)⟩
      refine c_scT h22 hw (by decide) (fun s23 h23 => ?_)
      refine c_scT h23 hw (by decide) (fun s24 h24 => ?_)
      refine c_scT h24 hw (by decide) (fun s25 h25 => ?_)
      refine c_scT h25 hw (by decide) (fun s26 h26 => ?_)
      refine c_scT h26 hw (by decide) (fun s27 h27 => ?_)
      refine c_scT h27 hw (by decide) (fun s28 h28 => ?_)
      refine c_scT h28 hw (by decide) (fun s29 h29 => ?_)
      refine c_scT h29 hw (by decide) (fun s30 h30 => ?_)
      obtain ⟨a1, a2, a3, a4, a5, a6, a7⟩ := h30
      have y11 : cpY w.1 n 11 = w.1 11 := funext fun i => if_neg (by omega)
      have yd : ∀ b i, 7 ≤ b → cpY w.1 n b i = w.1 b i := fun b i hb => if_neg (by omega)
      refine ⟨cpY w.1 n, w.2, ⟨⟨b, a1.trans ?_, Or.inl (by rw [a7]; exact List.mem_cons_self)⟩, fun b hb => ?_, ⟨fD q1 4, ?_, fun d hd => if_pos hd⟩, ?_, fun d hd => ?_, ?_⟩, fun s31 e31 => ?_⟩
      · unfold hObj
        rw [y11]
        rfl
      · rw [a2 b (by omega)]
        unfold gK
        rw [if_pos hb]
        refine congrArg (fun f => some (.inl (0, 12, .inl f) : aE)) (funext fun q => ?_)
        unfold cpY
        by_cases c : q < n
        · rw [if_pos c, if_neg (by omega)]
        · rw [if_neg c, if_pos ⟨hb, by omega⟩]
      · exact a2 7 (by decide)
      · exact a2 8 (by decide)
      · have := a2 (9 + d) (by omega)
        rw [show q1 + 1 + (9 + d) = q1 + 9 + (1 + d) by omega] at this
        rw [this]
        unfold gK hDr
        rw [if_neg (by omega), if_neg (by omega), if_neg (by omega), show 9 + d - 9 = d by omega, yd 7 d (by decide), yd 8 d (by decide), yd 9 d (by decide), yd 10 d (by decide)]
      · rw [y11]
        exact hlit
      · refine h s31 (fun q e hq => ?_) ?_ ?_ ?_
        · rw [e31]
          have := (a3 q e hq).1
          show (if q1 ≤ q ∧ q < q1 + 14 then none else s30.1 q) = _
          rw [if_neg (by omega)]
          exact (a3 q e hq).2
        · rw [e31]
          show (fun q => if q = q1 then some (cpY w.1 n, w.2) else s30.2.1 q) = _
          rw [a4]
        · rw [e31]
          show σ.2.2.1 ≤ s30.2.2.1 + 30
          rw [a5]
          omega
        · rw [e31]
          rfl
  · rcases i with _ | _ | _ | _ | _ | _ | _ | _ | _ | i <;> first | rfl | omega
end CP2
