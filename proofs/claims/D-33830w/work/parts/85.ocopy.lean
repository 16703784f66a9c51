set_option maxRecDepth 100000
/-! PLAIN: a house is copied -/
def CB (σ0 : OS) (κ : Nat) (B : List (Option Nat × List Int32)) (σ : OS) (a m : Nat) (fs : List Value) (g : Nat → aE) : Prop := σ.1 a = some (.inr (1, fs)) ∧ (∀ i, i < m → σ.1 (a + 1 + i) = some (g i)) ∧ (∀ q e, σ0.1 q = some e → q < a ∧ σ.1 q = some e) ∧ σ.2.1 = σ0.2.1 ∧ σ.2.2.1 = κ ∧ σ.2.2.2.1 = a + 1 + m ∧ σ.2.2.2.2 = B
section CP
variable {σ0 σ : OS} {κ a m : Nat} {B : List (Option Nat × List Int32)} {fs : List Value} {g g' : Nat → aE}
theorem CB.congr (h : CB σ0 κ B σ a m fs g) (hg : ∀ i, i < m → g' i = g i) : CB σ0 κ B σ a m fs g' := by
  obtain ⟨h1, h2, h3⟩ := h
  exact ⟨h1, fun i hi => by rw [hg i hi]; exact h2 i hi, h3⟩
theorem CB.put {fs' : List Value} (h : CB σ0 κ B σ a m fs g) : CB σ0 κ B (oPut σ a (.inr (1, fs'))) a m fs' g := by
  obtain ⟨h1, h2, h3, h4, h5, h6, h7⟩ := h
  refine ⟨a_up_self, fun i hi => ?_, fun q e hq => ?_, h4, h5, h6, h7⟩
  · show a_up σ.1 a _ (a + 1 + i) = _
    rw [a_up_ne (by omega)]
    exact h2 i hi
  · have := (h3 q e hq).1
    refine ⟨this, ?_⟩
    show a_up σ.1 a _ q = _
    rw [a_up_ne (by omega)]
    exact (h3 q e hq).2
theorem CB.cell {i : Nat} {e : aE} (h : CB σ0 κ B σ a m fs g) (hi : i < m) : CB σ0 κ B (oPut σ (a + 1 + i) e) a m fs (fun k => if k = i then e else g k) := by
  obtain ⟨h1, h2, h3, h4, h5, h6, h7⟩ := h
  refine ⟨?_, fun k hk => ?_, fun q e' hq => ?_, h4, h5, h6, h7⟩
  · show a_up σ.1 (a + 1 + i) _ a = _
    rw [a_up_ne (by omega)]
    exact h1
  · show a_up σ.1 (a + 1 + i) _ (a + 1 + k) = _
    by_cases c : k = i
    · rw [c, a_up_self]
      exact congrArg some (if_pos rfl).symm
    · rw [a_up_ne (by omega)]
      exact (h2 k hk).trans (congrArg some (if_neg c).symm)
  · have := (h3 q e' hq).1
    refine ⟨this, ?_⟩
    show a_up σ.1 (a + 1 + i) _ q = _
    rw [a_up_ne (by omega)]
    exact (h3 q e' hq).2
theorem CB.new {q c : Nat} {e : aE} (h : CB σ0 κ B σ a m fs g) (hq : σ.2.2.2.1 ≠ 0 → q = σ.2.2.2.1) : q = a + 1 + m ∧ CB σ0 (κ - c) B (oNew σ q c e) a (m + 1) fs (fun k => if k = m then e else g k) := by
  obtain ⟨h1, h2, h3, h4, h5, h6, h7⟩ := h
  have eq : q = a + 1 + m := by rw [hq (by omega), h6]
  subst eq
  refine ⟨rfl, ?_, fun k hk => ?_, fun q e' hq => ?_, h4, ?_, rfl, h7⟩
  · show a_up σ.1 (a + 1 + m) _ a = _
    rw [a_up_ne (by omega)]
    exact h1
  · show a_up σ.1 (a + 1 + m) _ (a + 1 + k) = _
    by_cases c : k = m
    · rw [c, a_up_self]
      exact congrArg some (if_pos rfl).symm
    · rw [a_up_ne (by omega)]
      exact (h2 k (by omega)).trans (congrArg some (if_neg c).symm)
  · have := (h3 q e' hq).1
    refine ⟨this, ?_⟩
    show a_up σ.1 (a + 1 + m) _ q = _
    rw [a_up_ne (by omega)]
    exact (h3 q e' hq).2
  · show σ.2.2.1 - c = κ - c
    rw [h5]
/-- a field of the house is set -/
theorem c_put {i : Nat} {v : Value} {K : OS → Prop} (h : CB σ0 κ B σ a m fs g) (hi : i < fs.length) (k : ∀ σ', CB σ0 κ B σ' a m (fs.set i v) g → K σ') : ∃ fs4 : List Value, σ.1 a = some (.inr (1, fs4)) ∧ i < fs4.length ∧ ∀ σ3 : OS, σ3 = (oPut σ a (.inr (1, fs4.set i v))) → K σ3 :=
  ⟨fs, h.1, hi, fun σ3 e => k σ3 (by rw [e]; exact h.put)⟩
/-- an array is made and kept in a field -/
theorem c_new {i c : Nat} {e : aE} {K : Nat → OS → Prop} (h : CB σ0 κ B σ a m fs g) (hc : c ≤ κ) (hi : i < fs.length) (k : ∀ σ', CB σ0 (κ - c) B σ' a (m + 1) (fs.set i (.ref (a + 1 + m))) (fun k => if k = m then e else g k) → K (a + 1 + m) σ') : c ≤ σ.2.2.1 ∧ ∀ q1 : Nat, oFr σ q1 → (σ.2.2.2.1 ≠ 0 → q1 = σ.2.2.2.1) → ∀ σ2 : OS, σ2 = oNew σ q1 c e → (∃ fs4 : List Value, σ2.1 a = some (.inr (1, fs4)) ∧ i < fs4.length ∧ ∀ σ3 : OS, σ3 = (oPut σ2 a (.inr (1, fs4.set i (.ref q1)))) → K q1 σ3) := by
  refine ⟨by rw [h.2.2.2.2.1]; exact hc, fun q1 _ hq σ2 e2 => ?_⟩
  obtain ⟨eq, hN⟩ := h.new (c := c) (e := e) hq
  subst eq
  subst e2
  exact c_put hN hi k
/-- a house's scalar goes into a field -/
theorem c_sc {p i j : Nat} {w : MS × List Int32} {K : OS → Prop} (h : CB σ0 κ B σ a m fs g) (hw : σ0.2.1 p = some w) (hi : i < fs.length) (k : ∀ σ', CB σ0 κ B σ' a m (fs.set i (.int (w.1 11 j))) g → K σ') : ∃ w4 : MS × List Int32, σ.2.1 p = some w4 ∧ (∃ fs4 : List Value, σ.1 a = some (.inr (1, fs4)) ∧ i < fs4.length ∧ ∀ σ3 : OS, σ3 = (oPut σ a (.inr (1, fs4.set i (.int (w4.1 11 j))))) → K σ3) :=
  ⟨w, by rw [h.2.2.2.1]; exact hw, c_put h hi k⟩
/-- an int of an array is copied -/
theorem c_cp {p i j k : Nat} {w : MS × List Int32} {f : Nat → Int32} {K : OS → Prop} (h : CB σ0 κ B σ a m fs g) (hw : σ0.2.1 p = some w) (hf : fs[i]? = some (.ref (a + 1 + j))) (hj : j < m) (hg : g j = .inl (0, 12, .inl f)) (hk : k < 12) (kk : ∀ σ', CB σ0 κ B σ' a m fs (fun q => if q = j then .inl (0, 12, .inl (upd f k (w.1 i k))) else g q) → K σ') : ∃ r108 : Nat, oF σ a 1 i (.ref r108) ∧ (∃ w109 : MS × List Int32, σ.2.1 p = some w109 ∧ (∃ w110 : MS × List Int32, σ.2.1 p = some w110 ∧ vp_in (nI k) 12 ∧ (∃ (n112 : Nat) (f113 : Nat → Int32), σ.1 r108 = some (.inl (0, n112, .inl f113)) ∧ vp_in (nI k) n112 ∧ ∀ σ111 : OS, σ111 = oPut σ r108 (.inl (0, n112, .inl (upd f113 (nI k).toNatClampNeg (w110.1 i (nI k).toNatClampNeg)))) → K σ111))) := by
  have hw' : σ.2.1 p = some w := by rw [h.2.2.2.1]; exact hw
  refine ⟨a + 1 + j, ⟨fs, h.1, hf⟩, w, hw', w, hw', vl hk, 12, f, by rw [h.2.1 j hj, hg], vl hk, fun σ111 e => kk σ111 ?_⟩
  rw [e, cl hk]
  exact h.cell hj
def cpY (y : MS) (n : Nat) : MS := fun b i => if b < 7 ∧ n ≤ i then 0 else y b i
def gK (y : MS) (k : Nat) (gD : aE) : Nat → aE := fun i => if i < 7 then .inl (0, 12, .inl (fun q => if q < k then y i q else 0)) else if i = 7 then gD else if i = 8 then .inr (2, [.int 0]) else hDr y (i - 9)
theorem gK_up {y : MS} {k i j : Nat} (h : i < 7) : upd (fun q => if q < k then y i q else 0) k (y i k) = fun q => if q < k + 1 then y i q else 0 := by
  funext q
  by_cases e : q = k
  · subst e
    rw [pk_us, if_pos (by omega)]
  · rw [pk_un e]
    by_cases c : q < k
    · rw [if_pos c, if_pos (by omega)]
    · rw [if_neg c, if_neg (by omega)]
def fsOk (a : Nat) (fs : List Value) : Prop := fs.length = 22 ∧ ∀ i, i < 8 → fs[i]? = some (.ref (a + 1 + i))
theorem c_L99 {kx : Int32 → OS → Prop} {p n : Nat} {w : MS × List Int32} {gD : aE} (hw : σ0.2.1 p = some w) (hn : w.1 11 1 = nI n) (h12 : n ≤ 12) (hfs : fsOk a fs) (h : ∀ σ', CB σ0 κ B σ' a 9 fs (gK w.1 n gD) → kx (nI n) σ') : ∀ d F k σ, k + d = n → d < F → CB σ0 κ B σ a 9 fs (gK w.1 k gD) → wp_X2_init_2_L99 kx p a F (nI k) σ := by
  intro d
  induction d with
  | zero =>
    intro F k σ e hF hC
    obtain ⟨F, rfl⟩ := fpos hF
    obtain rfl : k = n := by omega
    rw [wp_X2_init_2_L99]
    refine ⟨w, by rw [hC.2.2.2.1]; exact hw, fun _ => h σ hC, fun c => ?_⟩
    rw [hn] at c
    exact absurd lp_out c
  | succ d ih =>
    intro F k σ e hF hC
    obtain ⟨F, rfl⟩ := fpos hF
    rw [wp_X2_init_2_L99]
    have hk : k < 12 := by omega
    obtain ⟨-, hr⟩ := hfs
    refine ⟨w, by rw [hC.2.2.2.1]; exact hw, fun c => ?_, fun _ => ?_⟩
    · rw [hn] at c
      exact absurd c (lp_in (by omega) h12)
    refine c_cp (j := 0) hC hw (hr 0 (by decide)) (by decide) rfl hk (fun σ1 h1 => ?_)
    refine c_cp (j := 1) (f := fun q => if q < k then w.1 1 q else 0) h1 hw (hr 1 (by decide)) (by decide) rfl hk (fun σ2 h2 => ?_)
    refine c_cp (j := 2) (f := fun q => if q < k then w.1 2 q else 0) h2 hw (hr 2 (by decide)) (by decide) rfl hk (fun σ3 h3 => ?_)
    refine c_cp (j := 3) (f := fun q => if q < k then w.1 3 q else 0) h3 hw (hr 3 (by decide)) (by decide) rfl hk (fun σ4 h4 => ?_)
    refine c_cp (j := 4) (f := fun q => if q < k then w.1 4 q else 0) h4 hw (hr 4 (by decide)) (by decide) rfl hk (fun σ5 h5 => ?_)
    refine c_cp (j := 5) (f := fun q => if q < k then w.1 5 q else 0) h5 hw (hr 5 (by decide)) (by decide) rfl hk (fun σ6 h6 => ?_)
    refine c_cp (j := 6) (f := fun q => if q < k then w.1 6 q else 0) h6 hw (hr 6 (by decide)) (by decide) rfl hk (fun σ7 h7 => ?_)
    have e1 := ih F (k + 1) σ7 (by omega) (by omega) (h7.congr (fun i hi => ?_))
    · rw [nI_succ] at e1
      exact e1
    · have up : ∀ j, j < 7 → upd (fun q => if q < k then w.1 j q else 0) k (w.1 j k) = fun q => if q < k + 1 then w.1 j q else 0 := fun j hj => gK_up (j := 0) hj
      rcases i with _ | _ | _ | _ | _ | _ | _ | _ | _ | i
      · exact congrArg (fun f => (.inl (0, 12, .inl f) : aE)) (up 0 (by decide)).symm
      · exact congrArg (fun f => (.inl (0, 12, .inl f) : aE)) (up 1 (by decide)).symm
      · exact congrArg (fun f => (.inl (0, 12, .inl f) : aE)) (up 2 (by decide)).symm
      · exact congrArg (fun f => (.inl (0, 12, .inl f) : aE)) (up 3 (by decide)).symm
      · exact congrArg (fun f => (.inl (0, 12, .inl f) : aE)) (up 4 (by decide)).symm
      · exact congrArg (fun f => (.inl (0, 12, .inl f) : aE)) (up 5 (by decide)).symm
      · exact congrArg (fun f => (.inl (0, 12, .inl f) : aE)) (up 6 (by decide)).symm
      · rfl
      · rfl
      · omega
end CP
