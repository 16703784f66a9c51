set_option maxRecDepth 100000
/-! THE WIDE WORLD: σ.1 a piece of the heap, cell by cell; σ.2.1 the houses by their addresses; σ.2.2.1 how many cells may still be made (10 slots each); σ.2.2.2.1 the number of cells, where it is known (else 0); σ.2.2.2.2 books that were seen, by their first entries; E: the addresses that are left alone -/
abbrev HM : Type := Nat → Option (MS × List Int32)
abbrev OS : Type := AH × HM × Nat × Nat × List (Option Nat × List Int32)
def oPut (σ : OS) (a : Nat) (e : aE) : OS := (a_up σ.1 a e, σ.2)
def oNew (σ : OS) (q c : Nat) (e : aE) : OS := (a_up σ.1 q e, σ.2.1, σ.2.2.1 - c, q + 1, σ.2.2.2.2)
def oBk (σ : OS) (b : Option Nat) (L : List Int32) : OS := (σ.1, σ.2.1, σ.2.2.1, σ.2.2.2.1, (b, L) :: σ.2.2.2.2)
def oHc (σ : OS) (a : Nat) (s : HS) : OS := (σ.1, (fun q => if q = a then some (s.1, s.2.1) else σ.2.1 q), s.2.2, 0, σ.2.2.2.2)
def oF (σ : OS) (a ci k : Nat) (v : Value) : Prop := ∃ fs, σ.1 a = some (.inr (ci, fs)) ∧ fs[k]? = some v
def oC (σ : OS) (a ci : Nat) : Prop := ∃ fs, σ.1 a = some (.inr (ci, fs))
def oFr (σ : OS) (q : Nat) : Prop := (∀ x e, σ.1 x = some e → x < q) ∧ ∀ a y, σ.2.1 a = some y → a + 14 ≤ q
def ne5 (e : aE) : Prop := ∀ f, e ≠ .inr (5, f)
def OV (h : AH) (E : Nat → Prop) (σ : OS) : Prop :=
  (∀ q e, σ.1 q = some e → h q = some e) ∧ (∀ a y, σ.2.1 a = some y → HV h a (y.1, y.2, 0)) ∧
  (∀ a y, σ.2.1 a = some y → ∀ q, ((∃ e, σ.1 q = some e) ∨ E q) → q < a ∨ a + 14 ≤ q) ∧
  (∀ a b y z, σ.2.1 a = some y → σ.2.1 b = some z → a ≠ b → a + 14 ≤ b ∨ b + 14 ≤ a) ∧
  (∀ q e, σ.1 q = some e → ¬ E q) ∧ (∀ q e, σ.1 q = some e → ne5 e) ∧ (∀ b L, (b, L) ∈ σ.2.2.2.2 → BK h L b)
def OW (h0 : AH) (n0 u0 : Nat) (E : Nat → Prop) (K : Nat) (σ : OS) : aWd := fun h n u =>
  OV h E σ ∧ n0 ≤ n ∧ u0 ≤ u ∧ n + σ.2.2.1 ≤ n0 + K ∧ u + 10 * σ.2.2.1 ≤ u0 + 10 * K ∧ (∀ q, E q → h q = h0 q) ∧ (∀ q, E q → q < n0) ∧ (σ.2.2.2.1 ≠ 0 → n = σ.2.2.2.1)
/-- what a contract of this world asks of the heap it begins with -/
def OB (h0 : AH) (n0 : Nat) (E : Nat → Prop) (σ : OS) : Prop := OV h0 E σ ∧ (∀ q, E q → q < n0) ∧ (σ.2.2.2.1 ≠ 0 → n0 = σ.2.2.2.1)
theorem HV.keep {h h1 : AH} {a : Nat} {y : MS} {L : List Int32} {k k1 : Nat} (hV : HV h a (y, L, k)) (hin : ∀ q, a ≤ q → q < a + 14 → h1 q = h q) (h5 : ∀ (q : Nat) (f : List Value), h q = some (.inr (5, f)) → h1 q = some (.inr (5, f))) : HV h1 a (y, L, k1) := by
  obtain ⟨⟨b, e1, e2⟩, e3, ⟨f, e4, e5⟩, e6, e7, e8⟩ := hV
  exact ⟨⟨b, (hin a (by omega) (by omega)).trans e1, BK.mono h5 _ _ e2⟩, fun b hb => (hin _ (by omega) (by omega)).trans (e3 b hb), ⟨f, (hin _ (by omega) (by omega)).trans e4, e5⟩, (hin _ (by omega) (by omega)).trans e6, fun d hd => (hin _ (by omega) (by omega)).trans (e7 d hd), e8⟩
theorem HV.dom {h : AH} {a : Nat} {s : HS} (hV : HV h a s) {n : Nat} (hd : ∀ x f, h x = some f → x < n) : a + 14 ≤ n := by
  have := hd _ _ (hV.2.2.2.2.1 3 (by decide))
  omega
theorem OW.start {h0 : AH} {n0 u0 : Nat} {E : Nat → Prop} {σ : OS} (hB : OB h0 n0 E σ) : ∀ h n u, aIs h0 n0 u0 h n u → OW h0 n0 u0 E σ.2.2.1 σ h n u := by
  rintro h n u ⟨rfl, rfl, rfl⟩
  exact ⟨hB.1, Nat.le_refl _, Nat.le_refl _, Nat.le_refl _, Nat.le_refl _, fun _ _ => rfl, hB.2.1, hB.2.2⟩
theorem OW.base {h0 : AH} {n0 u0 K : Nat} {E : Nat → Prop} {σ : OS} {h : AH} {n u : Nat} (hV : OW h0 n0 u0 E K σ h n u) : OB h n E σ := by
  obtain ⟨a0, a1, a2, a3, a4, a5, a6, a7⟩ := hV
  exact ⟨a0, fun q hq => Nat.lt_of_lt_of_le (a6 q hq) a1, a7⟩
theorem OW.trans {h0 : AH} {n0 u0 K k : Nat} {E : Nat → Prop} {σ σ1 : OS} {h : AH} {n u : Nat} (hV : OW h0 n0 u0 E K σ h n u) {h1 : AH} {n1 u1 : Nat} (h2 : OW h n u E k σ1 h1 n1 u1) (hk : k ≤ σ.2.2.1) : OW h0 n0 u0 E K (σ1.1, σ1.2.1, σ1.2.2.1 + (σ.2.2.1 - k), σ1.2.2.2) h1 n1 u1 := by
  obtain ⟨-, a1, a2, a3, a4, a5, a6, a7⟩ := hV
  obtain ⟨b0, b1, b2, b3, b4, b5, b6, b7⟩ := h2
  refine ⟨b0, by omega, by omega, ?_, ?_, fun q hq => (b5 q hq).trans (a5 q hq), a6, b7⟩
  · show n1 + (σ1.2.2.1 + (σ.2.2.1 - k)) ≤ n0 + K
    omega
  · show u1 + 10 * (σ1.2.2.1 + (σ.2.2.1 - k)) ≤ u0 + 10 * K
    omega
theorem OW.trans0 {h0 : AH} {n0 u0 K : Nat} {E : Nat → Prop} {σ σ1 : OS} {h : AH} {n u : Nat} (hV : OW h0 n0 u0 E K σ h n u) {h1 : AH} {n1 u1 : Nat} (h2 : OW h n u E σ.2.2.1 σ1 h1 n1 u1) : OW h0 n0 u0 E K σ1 h1 n1 u1 := by
  have h := OW.trans hV h2 (Nat.le_refl _)
  rw [Nat.sub_self] at h
  exact h
theorem o_end {h0 : AH} {n0 u0 K : Nat} {E : Nat → Prop} {σ : OS} {h : AH} {n u : Nat} {s : State} (hs : s.heap.size = n0 ∧ slT s.heap = u0) (hV : OW h0 n0 u0 E K σ h n u) : n ≤ s.heap.size + K ∧ u ≤ slT s.heap + 10 * K := by
  obtain ⟨-, a1, a2, a3, a4, -⟩ := hV
  omega
theorem o_fld {h0 : AH} {n0 u0 K : Nat} {E : Nat → Prop} {σ : OS} {h : AH} {n u a ci k : Nat} {v : Value} (hF : oF σ a ci k v) (hV : OW h0 n0 u0 E K σ h n u) : ∃ fs, h a = some (.inr (ci, fs)) ∧ fs[k]? = some v := by
  obtain ⟨fs, e1, e2⟩ := hF
  exact ⟨fs, hV.1.1 _ _ e1, e2⟩
theorem o_cls {h0 : AH} {n0 u0 K : Nat} {E : Nat → Prop} {σ : OS} {h : AH} {n u a ci : Nat} (hF : oC σ a ci) (hV : OW h0 n0 u0 E K σ h n u) : ∃ fs, h a = some (.inr (ci, fs)) := by
  obtain ⟨fs, e1⟩ := hF
  exact ⟨fs, hV.1.1 _ _ e1⟩
theorem o_arr {h0 : AH} {n0 u0 K : Nat} {E : Nat → Prop} {σ : OS} {h : AH} {n u a : Nat} {e : aE} (hF : σ.1 a = some e) (hV : OW h0 n0 u0 E K σ h n u) : h a = some e := hV.1.1 _ _ hF
theorem OV.put {h : AH} {E : Nat → Prop} {σ : OS} {x : Nat} {e0 e : aE} (hV : OV h E σ) (hx : σ.1 x = some e0) (he : ne5 e) : OV (a_up h x e) E (oPut σ x e) := by
  obtain ⟨a1, a2, a3, a4, a5, a6, aB⟩ := hV
  have hh := a1 _ _ hx
  have h5 := h_keep (E := e) hh (a6 _ _ hx)
  refine ⟨fun q f hf => ?_, fun a y hy => ?_, fun a y hy q hq => ?_, a4, fun q f hf => ?_, fun q f hf => ?_, fun b L hb => BK.mono h5 _ _ (aB b L hb)⟩
  · have hf : a_up σ.1 x e q = some f := hf
    by_cases z : q = x
    · subst z; rw [a_up_self] at hf ⊢; exact hf
    · rw [a_up_ne z] at hf ⊢; exact a1 _ _ hf
  · have := a3 a y hy x (Or.inl ⟨_, hx⟩)
    exact (a2 a y hy).keep (fun q h1 h2 => a_up_ne (by omega)) h5
  · rcases hq with ⟨f, hf⟩ | hq
    · have hf : a_up σ.1 x e q = some f := hf
      by_cases z : q = x
      · subst z; exact a3 a y hy q (Or.inl ⟨_, hx⟩)
      · rw [a_up_ne z] at hf; exact a3 a y hy q (Or.inl ⟨_, hf⟩)
    · exact a3 a y hy q (Or.inr hq)
  · have hf : a_up σ.1 x e q = some f := hf
    by_cases z : q = x
    · subst z; exact a5 _ _ hx
    · rw [a_up_ne z] at hf; exact a5 _ _ hf
  · have hf : a_up σ.1 x e q = some f := hf
    by_cases z : q = x
    · subst z; rw [a_up_self] at hf; cases hf; exact he
    · rw [a_up_ne z] at hf; exact a6 _ _ hf
theorem OW.put {h0 : AH} {n0 u0 K : Nat} {E : Nat → Prop} {σ : OS} {h : AH} {n u x : Nat} {e0 e : aE} (hV : OW h0 n0 u0 E K σ h n u) (hx : σ.1 x = some e0) (he : ne5 e) : OW h0 n0 u0 E K (oPut σ x e) (a_up h x e) n u := by
  obtain ⟨a0, a1, a2, a3, a4, a5, a6, a7⟩ := hV
  refine ⟨a0.put hx he, a1, a2, a3, a4, fun q hq => ?_, a6, a7⟩
  rw [a_up_ne]
  · exact a5 q hq
  · rintro rfl; exact a0.2.2.2.2.1 _ _ hx hq
theorem o_put {h0 : AH} {n0 u0 K : Nat} {E : Nat → Prop} {σ : OS} {h : AH} {n u a ci k : Nat} {v : Value} {fs : List Value} (hc : ci ≠ 5) (hx : σ.1 a = some (.inr (ci, fs))) (hk : k < fs.length) (hV : OW h0 n0 u0 E K σ h n u) : ∃ fs', h a = some (.inr (ci, fs')) ∧ k < fs'.length ∧ OW h0 n0 u0 E K (oPut σ a (.inr (ci, fs.set k v))) (a_up h a (.inr (ci, fs'.set k v))) n u :=
  ⟨fs, hV.1.1 _ _ hx, hk, hV.put hx (fun f z => by cases z; exact hc rfl)⟩
theorem OW.new {h0 : AH} {n0 u0 K N c : Nat} {E : Nat → Prop} {σ : OS} {h : AH} {n u q : Nat} {e : aE} (he : ne5 e) (h1 : 1 ≤ c) (h2 : N ≤ 10 * c) (h3 : c ≤ σ.2.2.1) (hV : aNew (OW h0 n0 u0 E K σ) q N e h n u) : oFr σ q ∧ (σ.2.2.2.1 ≠ 0 → q = σ.2.2.2.1) ∧ OW h0 n0 u0 E K (oNew σ q c e) h n u := by
  obtain ⟨h9, n9, u9, ⟨a0, a1, a2, a3, a4, a5, a6, a7⟩, rfl, hd, rfl, rfl, rfl⟩ := hV
  obtain ⟨b1, b2, b3, b4, b5, b6, bB⟩ := a0
  have hnq : ∀ e, σ.1 n9 ≠ some e := fun f hf => Nat.lt_irrefl _ (hd _ _ (b1 _ _ hf))
  have hh : ∀ f, h9 n9 ≠ some f := fun f hf => Nat.lt_irrefl _ (hd _ _ hf)
  have hk5 : ∀ (q : Nat) (f : List Value), h9 q = some (.inr (5, f)) → a_up h9 n9 e q = some (.inr (5, f)) := fun q f hf => by
    rw [a_up_ne]
    · exact hf
    · rintro rfl; exact hh _ hf
  refine ⟨⟨fun x f hf => hd _ _ (b1 _ _ hf), fun a y hy => (b2 a y hy).dom hd⟩, a7, ⟨fun q f hf => ?_, fun a y hy => ?_, fun a y hy q hq => ?_, b4, fun q f hf => ?_, fun q f hf => ?_, fun b L hb => BK.mono hk5 _ _ (bB b L hb)⟩, by omega, by omega, ?_, ?_, fun q hq => ?_, a6, fun _ => rfl⟩
  · have hf : a_up σ.1 n9 e q = some f := hf
    by_cases z : q = n9
    · subst z; rw [a_up_self] at hf ⊢; exact hf
    · rw [a_up_ne z] at hf ⊢; exact b1 _ _ hf
  · have hdm := (b2 a y hy).dom hd
    exact (b2 a y hy).keep (fun q h1 h2 => a_up_ne (by omega)) hk5
  · have hdm := (b2 a y hy).dom hd
    rcases hq with ⟨f, hf⟩ | hq
    · have hf : a_up σ.1 n9 e q = some f := hf
      by_cases z : q = n9
      · subst z; exact Or.inr hdm
      · rw [a_up_ne z] at hf; exact b3 a y hy q (Or.inl ⟨_, hf⟩)
    · exact b3 a y hy q (Or.inr hq)
  · have hf : a_up σ.1 n9 e q = some f := hf
    by_cases z : q = n9
    · subst z; intro hE; have := a6 _ hE; omega
    · rw [a_up_ne z] at hf; exact b5 _ _ hf
  · have hf : a_up σ.1 n9 e q = some f := hf
    by_cases z : q = n9
    · subst z; rw [a_up_self] at hf; cases hf; exact he
    · rw [a_up_ne z] at hf; exact b6 _ _ hf
  · show n9 + 1 + (σ.2.2.1 - c) ≤ n0 + K
    omega
  · show u9 + N + 10 * (σ.2.2.1 - c) ≤ u0 + 10 * K
    omega
  · rw [a_up_ne]
    · exact a5 q hq
    · rintro rfl; have := a6 _ hq; omega
/-- behind a house's method -/
theorem OW.house {h0 : AH} {n0 u0 K : Nat} {E : Nat → Prop} {σ : OS} {h : AH} {n u a : Nat} {y : MS × List Int32} {s1 : HS} {h1 : AH} {n1 u1 : Nat} (hV : OW h0 n0 u0 E K σ h n u) (hd : ∀ x f, h x = some f → x < n) (hy : σ.2.1 a = some y) (h2 : HW h n u a σ.2.2.1 s1 h1 n1 u1) : OW h0 n0 u0 E K (oHc σ a s1) h1 n1 u1 := by
  obtain ⟨a0, a1, a2, a3, a4, a5, a6, a7⟩ := hV
  obtain ⟨b0, b1, b2, b3, b4, b5, b6⟩ := h2
  obtain ⟨g1, g2, g3, g4, g5, g6, gB⟩ := a0
  have hA : ∀ a' y', (oHc σ a s1).2.1 a' = some y' → ∃ z, σ.2.1 a' = some z := by
    intro a' y' hy'
    have hy' : (if a' = a then some (s1.1, s1.2.1) else σ.2.1 a') = some y' := hy'
    by_cases z : a' = a
    · subst z; exact ⟨_, hy⟩
    · rw [if_neg z] at hy'; exact ⟨_, hy'⟩
  refine ⟨⟨fun q f hf => ?_, fun a' y' hy' => ?_, fun a' y' hy' q hq => ?_, fun a' b' y' z' hy' hz' hne => ?_, g5, g6, fun b L hb => BK.mono b6 _ _ (gB b L hb)⟩, by omega, by omega, ?_, ?_, fun q hq => ?_, a6, fun z => absurd rfl z⟩
  · have hf : σ.1 q = some f := hf
    exact (b5 q (hd _ _ (g1 _ _ hf)) (g3 a y hy q (Or.inl ⟨_, hf⟩))).trans (g1 _ _ hf)
  · have hy' : (if a' = a then some (s1.1, s1.2.1) else σ.2.1 a') = some y' := hy'
    by_cases z : a' = a
    · subst z
      rw [if_pos rfl] at hy'
      cases hy'
      exact b0.keep (fun _ _ _ => rfl) (fun _ _ h => h)
    · rw [if_neg z] at hy'
      have hdm := (g2 a' y' hy').dom hd
      have hap := g4 a a' _ _ hy hy' (Ne.symm z)
      exact (g2 a' y' hy').keep (fun q h1 h2 => b5 q (by omega) (by omega)) b6
  · obtain ⟨z, hz⟩ := hA a' y' hy'
    exact g3 a' z hz q hq
  · obtain ⟨z, hz⟩ := hA a' y' hy'
    obtain ⟨z2, hz2⟩ := hA b' z' hz'
    exact g4 a' b' z z2 hz hz2 hne
  · show n1 + s1.2.2 ≤ n0 + K
    omega
  · show u1 + 10 * s1.2.2 ≤ u0 + 10 * K
    omega
  · exact (b5 q (Nat.lt_of_lt_of_le (a6 q hq) a1) (g3 a y hy q (Or.inr hq))).trans (a5 q hq)
abbrev o_pi (Q : Int32 → OS → Prop) (h0 : AH) (n0 u0 : Nat) (E : Nat → Prop) (K : Nat) : Option Value → aWd := fun r h n u => ∃ x : Int32 × OS, r = some (.int x.1) ∧ Q x.1 x.2 ∧ OW h0 n0 u0 E K x.2 h n u
abbrev o_pd (Q : UInt64 → OS → Prop) (h0 : AH) (n0 u0 : Nat) (E : Nat → Prop) (K : Nat) : Option Value → aWd := fun r h n u => ∃ x : UInt64 × OS, r = some (.double x.1) ∧ Q x.1 x.2 ∧ OW h0 n0 u0 E K x.2 h n u
abbrev o_pr (Q : Nat → OS → Prop) (h0 : AH) (n0 u0 : Nat) (E : Nat → Prop) (K : Nat) : Option Value → aWd := fun r h n u => ∃ x : Nat × OS, r = some (.ref x.1) ∧ Q x.1 x.2 ∧ OW h0 n0 u0 E K x.2 h n u
abbrev o_pq (Q : Option Nat → OS → Prop) (h0 : AH) (n0 u0 : Nat) (E : Nat → Prop) (K : Nat) : Option Value → aWd := fun r h n u => ∃ x : Option Nat × OS, r = some (va_rf x.1) ∧ Q x.1 x.2 ∧ OW h0 n0 u0 E K x.2 h n u
abbrev o_pv (Q : OS → Prop) (h0 : AH) (n0 u0 : Nat) (E : Nat → Prop) (K : Nat) : Option Value → aWd := fun r h n u => ∃ x : OS, r = none ∧ Q x ∧ OW h0 n0 u0 E K x h n u
/-- a house's book is looked at -/
theorem OW.book {h0 : AH} {n0 u0 K : Nat} {E : Nat → Prop} {σ : OS} {h : AH} {n u a : Nat} {w : MS × List Int32} (hV : OW h0 n0 u0 E K σ h n u) (hy : σ.2.1 a = some w) : ∃ b fs, h a = some (.inr (1, fs)) ∧ fs[9]? = some (va_rf b) ∧ (b = none ↔ w.2 = []) ∧ OW h0 n0 u0 E K (oBk σ b w.2) h n u := by
  obtain ⟨a0, a1⟩ := hV
  obtain ⟨g1, g2, g3, g4, g5, g6, gB⟩ := a0
  obtain ⟨⟨b, e1, e2⟩, -⟩ := g2 _ _ hy
  refine ⟨b, _, e1, rfl, ?_, ⟨g1, g2, g3, g4, g5, g6, fun b' L hb => ?_⟩, a1⟩
  · revert e2
    cases hw : w.2 with
    | nil => intro e2; exact ⟨fun _ => rfl, fun _ => e2⟩
    | cons t r => intro e2; obtain ⟨q, b1, rfl, -⟩ := e2; exact ⟨(fun z => by cases z), (fun z => by cases z)⟩
  · rcases List.mem_cons.mp hb with z | z
    · cases z; exact e2
    · exact gB b' L z
/-- the cells of a house, one by one -/
def oHouse (σ : OS) (a : Nat) (y : MS) (L : List Int32) : Prop := (∃ b, σ.1 a = some (hObj a b y) ∧ ((b, L) ∈ σ.2.2.2.2 ∨ (b = none ∧ L = []))) ∧ (∀ b, b < 7 → σ.1 (a + 1 + b) = some (.inl (0, 12, .inl (y b)))) ∧ (∃ f : Nat → Option Nat, σ.1 (a + 8) = some (.inl (4, 4, .inr (.inr (.inr (.inr f))))) ∧ ∀ d, d < 4 → f d = some (a + 9 + (1 + d))) ∧ σ.1 (a + 9 + 0) = some (.inr (2, [.int 0])) ∧ (∀ d, d < 4 → σ.1 (a + 9 + (1 + d)) = some (hDr y d)) ∧ (y 11 3 = 0 ∨ y 11 3 = 1)
def oFold (σ : OS) (a : Nat) (y : MS) (L : List Int32) : OS := ((fun q => if a ≤ q ∧ q < a + 14 then none else σ.1 q), (fun q => if q = a then some (y, L) else σ.2.1 q), σ.2.2.1, 0, σ.2.2.2.2)
theorem oHouse.cell {σ : OS} {a : Nat} {y : MS} {L : List Int32} (hH : oHouse σ a y L) : ∀ q, a ≤ q → q < a + 14 → ∃ e, σ.1 q = some e := by
  obtain ⟨⟨b, e1, -⟩, e2, ⟨f, e3, -⟩, e4, e5, -⟩ := hH
  intro q h1 h2
  by_cases z0 : q = a
  · subst z0; exact ⟨_, e1⟩
  by_cases z1 : q < a + 8
  · have := e2 (q - (a + 1)) (by omega)
    rw [show a + 1 + (q - (a + 1)) = q by omega] at this
    exact ⟨_, this⟩
  by_cases z2 : q = a + 8
  · subst z2; exact ⟨_, e3⟩
  by_cases z3 : q = a + 9
  · subst z3; exact ⟨_, e4⟩
  have := e5 (q - (a + 10)) (by omega)
  rw [show a + 9 + (1 + (q - (a + 10))) = q by omega] at this
  exact ⟨_, this⟩
/-- cells that are a house are taken as one -/
theorem OW.fold {h0 : AH} {n0 u0 K : Nat} {E : Nat → Prop} {σ : OS} {h : AH} {n u a : Nat} {y : MS} {L : List Int32} (hH : oHouse σ a y L) (hV : OW h0 n0 u0 E K σ h n u) : OW h0 n0 u0 E K (oFold σ a y L) h n u := by
  have hcell := hH.cell
  obtain ⟨⟨b, e1, eb⟩, e2, ⟨f, e3, ef⟩, e4, e5, e6⟩ := hH
  obtain ⟨⟨g1, g2, g3, g4, g5, g6, gB⟩, r1, r2, r3, r4, r5, r6, r7⟩ := hV
  have hsub : ∀ q e, (oFold σ a y L).1 q = some e → ¬ (a ≤ q ∧ q < a + 14) ∧ σ.1 q = some e := by
    intro q e hq
    have hq : (if a ≤ q ∧ q < a + 14 then none else σ.1 q) = some e := hq
    by_cases z : a ≤ q ∧ q < a + 14
    · rw [if_pos z] at hq; cases hq
    · rw [if_neg z] at hq; exact ⟨z, hq⟩
  have hhs : ∀ a' w, (oFold σ a y L).2.1 a' = some w → (a' = a ∧ w = (y, L)) ∨ (a' ≠ a ∧ σ.2.1 a' = some w) := by
    intro a' w hq
    have hq : (if a' = a then some (y, L) else σ.2.1 a') = some w := hq
    by_cases z : a' = a
    · rw [if_pos z] at hq; cases hq; exact Or.inl ⟨z, rfl⟩
    · rw [if_neg z] at hq; exact Or.inr ⟨z, hq⟩
  have hap : ∀ a' w, σ.2.1 a' = some w → a' + 14 ≤ a ∨ a + 14 ≤ a' := by
    intro a' w hw
    have c0 := g3 a' w hw a (Or.inl (hcell a (Nat.le_refl _) (by omega)))
    have c1 := g3 a' w hw (a + 13) (Or.inl (hcell (a + 13) (by omega) (by omega)))
    rcases c0 with c0 | c0
    · rcases c1 with c1 | c1
      · exact Or.inr (by
          have h8 := g3 a' w hw
          by_cases z : a' < a + 14
          · rcases h8 a' (Or.inl (hcell a' (by omega) z)) with q | q <;> omega
          · omega)
      · omega
    · exact Or.inl c0
  refine ⟨⟨fun q e hq => g1 _ _ (hsub q e hq).2, fun a' w hw => ?_, fun a' w hw q hq => ?_, fun a' b' w z hw hz hne => ?_, fun q e hq => g5 _ _ (hsub q e hq).2, fun q e hq => g6 _ _ (hsub q e hq).2, gB⟩, r1, r2, r3, r4, r5, r6, fun z => absurd rfl z⟩
  · rcases hhs a' w hw with ⟨rfl, rfl⟩ | ⟨hne, hw⟩
    · refine ⟨⟨b, g1 _ _ e1, ?_⟩, fun b hb => g1 _ _ (e2 b hb), ⟨f, g1 _ _ e3, ef⟩, g1 _ _ e4, fun d hd => g1 _ _ (e5 d hd), e6⟩
      rcases eb with eb | ⟨rfl, rfl⟩
      · exact gB _ _ eb
      · exact rfl
    · exact g2 a' w hw
  · rcases hhs a' w hw with ⟨rfl, rfl⟩ | ⟨hne, hw⟩
    · rcases hq with ⟨e, he⟩ | hE
      · have := (hsub q e he).1; omega
      · by_cases z : a' ≤ q ∧ q < a' + 14
        · obtain ⟨e, he⟩ := hcell q z.1 z.2
          exact absurd hE (g5 _ _ he)
        · omega
    · exact g3 a' w hw q (hq.imp (fun ⟨e, he⟩ => ⟨e, (hsub q e he).2⟩) id)
  · rcases hhs a' w hw with ⟨za, -⟩ | ⟨-, hw2⟩
    · rcases hhs b' z hz with ⟨zb, -⟩ | ⟨-, hz2⟩
      · exact absurd (za.trans zb.symm) hne
      · rw [za]; exact (hap b' z hz2).symm
    · rcases hhs b' z hz with ⟨zb, -⟩ | ⟨-, hz2⟩
      · rw [zb]; exact hap a' w hw2
      · exact g4 a' b' w z hw2 hz2 hne
