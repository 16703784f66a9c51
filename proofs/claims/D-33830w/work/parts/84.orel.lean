set_option maxRecDepth 100000
/-! PLAIN: the component as a whole related to the model as a whole -/
def RHo (T : Nat) (H : HM) (a : Nat) (z : Zz) : Prop := ∃ (y : MS) (L : List Int32) (n : Nat), H a = some (y, L) ∧ RH T y L z n ∧ litk z n
def RDq (T : Nat) (A : AH) (H : HM) (dq : Nat) (lst : List Nat) (past : Zz) : Prop := ∃ (arr hd : Nat) (f : Nat → Option Nat), A dq = some (.inr (9, [.ref arr, .int (nI hd), .int (nI ((hd + lst.length) % 17))])) ∧ hd < 17 ∧ A arr = some (.inl (3, 17, .inr (.inr (.inr (.inr f))))) ∧ lst.length ≤ 5 ∧ (∀ i, i < lst.length → f ((hd + i) % 17) = lst[i]?) ∧ ∀ i a, lst[i]? = some a → RHo T H a (fun k => past (153 * i + k))
def RTx (A : AH) (sb l : Nat) (buf : Nat → Int32) : Prop := ∃ (bts cap : Nat) (f : Nat → Int32) (m : Int32), A sb = some (.inr (10, [.ref bts, .int 0, .int m, .int (nI l)])) ∧ A bts = some (.inl (2, cap, .inl f)) ∧ l ≤ 60 ∧ l ≤ cap ∧ 16 ≤ cap ∧ cap ≤ 130 ∧ (∀ i, i < cap → ∃ c, c < 127 ∧ f i = nI c) ∧ ∀ i, i < l → ∃ c, 32 ≤ c ∧ c < 127 ∧ f i = nI c ∧ buf i = nI c
def RO (T x out : Nat) (A : AH) (H : HM) (μ : MS) : Prop := ∃ (hA dq sb l : Nat) (sO : Option Nat) (lst : List Nat), A x = some (.inr (0, [.ref hA, va_rf sO, .ref dq, .ref sb])) ∧ RHo T H hA (μ 0) ∧ RDq T A H dq lst (μ 2) ∧ RTx A sb l (μ 4) ∧ (∃ fo : Nat → Int64, A out = some (.inl (1, 1, .inr (.inl fo)))) ∧ hA ∉ lst ∧ lst.Nodup ∧ sO ≠ some hA ∧ (∀ a, sO = some a → a ∉ lst ∧ RHo T H a (μ 3)) ∧ μ 5 0 = nI lst.length ∧ μ 5 1 = (if sO = none then 0 else 1) ∧ μ 5 2 = nI l
section OR
variable {T T' x out : Nat} {A A' : AH} {H H' : HM} {μ μ' : MS} {σ : OS} {a : Nat} {z z' : Zz}
theorem RH.up {y : MS} {L : List Int32} {n : Nat} (hT : T ≤ T') (h : RH T y L z n) : RH T' y L z n := by
  obtain ⟨h0, hE, hS, hG, hD, hB, ⟨a1, a2, a3, ⟨t, ht, e⟩, a4⟩⟩ := h
  exact ⟨h0, hE, hS, hG, hD, hB, ⟨a1, a2, a3, ⟨t, by omega, e⟩, a4⟩⟩
theorem RHo.ext (h : RHo T H a z) (hT : T ≤ T') (hH : ∀ w, H a = some w → H' a = some w) (hz : ∀ i, i < 153 → z' i = z i) : RHo T' H' a z' := by
  obtain ⟨y, L, n, h1, h2, h3⟩ := h
  exact ⟨y, L, n, hH _ h1, (h2.zc hz).up hT, litk_zc hz h2.zOK.2.1 h3⟩
theorem RDq.ext {dq : Nat} {lst : List Nat} {p p' : Zz} (h : RDq T A H dq lst p) (hT : T ≤ T') (hA : ∀ q e, A q = some e → A' q = some e) (hH : ∀ a, a ∈ lst → ∀ w, H a = some w → H' a = some w) (hp : ∀ i, i < 765 → p' i = p i) : RDq T' A' H' dq lst p' := by
  obtain ⟨arr, hd, f, h1, h2, h3, h4, h5, h6⟩ := h
  refine ⟨arr, hd, f, hA _ _ h1, h2, hA _ _ h3, h4, h5, fun i a hi => (h6 i a hi).ext hT (hH a (List.mem_of_getElem? hi)) (fun k hk => ?_)⟩
  have hi2 : i < lst.length := by
    rcases Nat.lt_or_ge i lst.length with q | q
    · exact q
    · rw [List.getElem?_eq_none q] at hi
      cases hi
  exact hp _ (by omega)
theorem RTx.ext {sb l : Nat} {b b' : Nat → Int32} (h : RTx A sb l b) (hA : ∀ q e, A q = some e → A' q = some e) (hb : ∀ i, i < 60 → b' i = b i) : RTx A' sb l b' := by
  obtain ⟨bts, cap, f, m, h1, h2, h3, h4, h5, h6, h7, h8⟩ := h
  refine ⟨bts, cap, f, m, hA _ _ h1, hA _ _ h2, h3, h4, h5, h6, h7, fun i hi => ?_⟩
  rw [hb i (by omega)]
  exact h8 i hi
theorem RO.ext (h : RO T x out A H μ) (hT : T ≤ T') (hA : ∀ q e, A q = some e → A' q = some e) (hH : ∀ a w, H a = some w → H' a = some w) (h0 : ∀ i, i < 153 → μ' 0 i = μ 0 i) (h2 : ∀ i, i < 765 → μ' 2 i = μ 2 i) (h3 : ∀ i, i < 153 → μ' 3 i = μ 3 i) (h4 : ∀ i, i < 60 → μ' 4 i = μ 4 i) (h5 : ∀ i, i < 3 → μ' 5 i = μ 5 i) : RO T' x out A' H' μ' := by
  obtain ⟨hA0, dq, sb, l, sO, lst, e1, e2, e3, e4, ⟨fo, e5⟩, e6, e7, e8, e9, e10, e11, e12⟩ := h
  refine ⟨hA0, dq, sb, l, sO, lst, hA _ _ e1, e2.ext hT (hH _) h0, e3.ext hT hA (fun a _ => hH a) h2, e4.ext hA h4, ⟨fo, hA _ _ e5⟩, e6, e7, e8, fun a ha => ⟨(e9 a ha).1, (e9 a ha).2.ext hT (hH _) h3⟩, ?_, ?_, ?_⟩
  · rw [h5 0 (by decide)]; exact e10
  · rw [h5 1 (by decide)]; exact e11
  · rw [h5 2 (by decide)]; exact e12
/-- the model's word of what was thrown doesn't matter -/
theorem RO.thr (h : RO T x out A H μ) (v : Int32) : RO T x out A H (mU μ 5 3 v) := by
  have e : ∀ b i, b ≠ 5 ∨ i ≠ 3 → mU μ 5 3 v b i = μ b i := fun b i hb => mU_at hb
  exact h.ext (Nat.le_refl _) (fun _ _ q => q) (fun _ _ q => q) (fun i _ => e 0 i (by omega)) (fun i _ => e 2 i (by omega)) (fun i _ => e 3 i (by omega)) (fun i _ => e 4 i (by omega)) (fun i hi => e 5 i (by omega))
theorem RO.mono (h : RO T x out A H μ) (hT : T ≤ T') : RO T' x out A H μ := h.ext hT (fun _ _ q => q) (fun _ _ q => q) (fun _ _ => rfl) (fun _ _ => rfl) (fun _ _ => rfl) (fun _ _ => rfl) (fun _ _ => rfl)
theorem oHc_same {w : MS × List Int32} (hN : σ.2.2.2.1 = 0) (hy : σ.2.1 a = some w) : oHc σ a (w.1, w.2, σ.2.2.1) = σ := by
  obtain ⟨A, H, k, N, B⟩ := σ
  simp only at hN hy
  subst hN
  unfold oHc
  have e : (fun q => if q = a then some (w.1, w.2) else H q) = H := by
    funext q
    by_cases h : q = a
    · rw [if_pos h, h, hy]
    · rw [if_neg h]
  simp only [e]
/-- the house of now, and what may be put in its place -/
theorem RO.house (h : RO T x out σ.1 σ.2.1 μ) : ∃ (hA : Nat) (y : MS) (L : List Int32) (n : Nat), (oF σ x 0 0 (.ref hA) ∧ oC σ x 0) ∧ σ.2.1 hA = some (y, L) ∧ RH T y L (μ 0) n ∧ litk (μ 0) n ∧ ∀ (s : HS) (z' : Zz) (n' T' : Nat), T ≤ T' → RH T' s.1 s.2.1 z' n' → litk z' n' → RO T' x out (oHc σ hA s).1 (oHc σ hA s).2.1 (mZ μ z') := by
  obtain ⟨hA, dq, sb, l, sO, lst, e1, ⟨y, L, n, f1, f2, f3⟩, e3, e4, e5, e6, e7, e8, e9, e10⟩ := h
  refine ⟨hA, y, L, n, ⟨⟨_, e1, rfl⟩, ⟨_, e1⟩⟩, f1, f2, f3, fun s z' n' T' hT g1 g2 => ?_⟩
  have hH : ∀ a, a ≠ hA → ∀ w, σ.2.1 a = some w → (oHc σ hA s).2.1 a = some w := fun a ha w hw => (if_neg ha).trans hw
  refine ⟨hA, dq, sb, l, sO, lst, e1, ⟨s.1, s.2.1, n', if_pos rfl, g1, g2⟩, e3.ext hT (fun _ _ q => q) (fun a ha => hH a (fun q => e6 (q ▸ ha))) (fun _ _ => rfl), e4, e5, e6, e7, e8, fun a ha => ⟨(e9 a ha).1, (e9 a ha).2.ext hT (hH a (fun q => e8 (by rw [ha, q]))) (fun _ _ => rfl)⟩, e10⟩
end OR
