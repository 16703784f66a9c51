set_option maxRecDepth 100000
/-! PLAIN: the saved houses' deque -/
def SDq (A : AH) (dq : Nat) (lst : List Nat) : Prop := ∃ (arr hd : Nat) (f : Nat → Option Nat), A dq = some (.inr (9, [.ref arr, .int (nI hd), .int (nI ((hd + lst.length) % 17))])) ∧ hd < 17 ∧ A arr = some (.inl (3, 17, .inr (.inr (.inr (.inr f))))) ∧ lst.length ≤ 5 ∧ (∀ i, i < lst.length → f ((hd + i) % 17) = lst[i]?)
def dqK (e : aE) : Prop := (∃ f, e = .inr (9, f)) ∨ ∃ f, ∃ (_ : Unit), e = .inl (3, 17, f)
def dqFr (A A' : AH) : Prop := ∀ q e, A q = some e → ¬ dqK e → A' q = some e
theorem vq {k : Nat} (h : k < 17) : vp_in (nI k) 17 := vp_in_nI h (by decide)
theorem cq {k : Nat} (h : k < 17) : (nI k).toNatClampNeg = k := nI_clamp (by omega)
theorem size_tab : ∀ hd, hd < 17 → ∀ l, l < 6 → (0 ≤ nI ((hd + l) % 17) - nI hd → nI ((hd + l) % 17) - nI hd = nI l) ∧ (¬ 0 ≤ nI ((hd + l) % 17) - nI hd → nI ((hd + l) % 17) - nI hd + 17 = nI l) ∧ (nI hd = nI ((hd + l) % 17) ↔ l = 0) := by decide +kernel
theorem inc_tab : ∀ i, i < 17 → ((nI i + 1 < 17) → nI i + 1 = nI ((i + 1) % 17)) ∧ (¬ nI i + 1 < 17 → 0 = nI ((i + 1) % 17)) := by decide +kernel
theorem dec_tab : ∀ i, i < 17 → ((0 ≤ nI i + (-1)) → nI i + (-1) = nI ((i + 16) % 17)) ∧ (¬ 0 ≤ nI i + (-1) → (17 : Int32) - 1 = nI ((i + 16) % 17)) := by decide +kernel
section DQ
variable {σ : OS} {dq a p : Nat} {lst r : List Nat}
theorem dqFr.up {A : AH} {q0 : Nat} {e0 e1 : aE} (h : A q0 = some e0) (hk : dqK e0) : dqFr A (a_up A q0 e1) := by
  intro q e hq hn
  rw [a_up_ne]
  · exact hq
  · rintro rfl
    rw [h] at hq
    cases hq
    exact hn hk
theorem dqFr.trans {A A' A'' : AH} (h : dqFr A A') (h2 : dqFr A' A'') : dqFr A A'' := fun q e hq hn => h2 q e (h q e hq hn) hn
theorem j2_size {Q : Int32 → OS → Prop} (h : SDq σ.1 dq lst) (hQ : Q (nI lst.length) σ) : wp_J2_size dq σ Q := by
  obtain ⟨arr, hd, f, h1, h2, h3, h4, h5⟩ := h
  unfold wp_J2_size wp_J2_sub
  obtain ⟨t1, t2, -⟩ := size_tab hd h2 lst.length (by omega)
  refine ⟨_, ⟨_, h1, rfl⟩, _, ⟨_, h1, rfl⟩, arr, ⟨_, h1, rfl⟩, 17, f, h3, fun c => ?_, fun c => ?_⟩
  · rw [t1 c]; exact hQ
  · show Q (nI ((hd + lst.length) % 17) - nI hd + 17) σ
    rw [t2 c]; exact hQ
theorem j2_isEmpty {Q : Int32 → OS → Prop} (h : SDq σ.1 dq lst) (h1 : lst.length = 0 → Q 1 σ) (h2 : lst.length ≠ 0 → Q 0 σ) : wp_J2_isEmpty dq σ Q := by
  obtain ⟨arr, hd, f, g1, g2, g3, g4, g5⟩ := h
  obtain ⟨-, -, t3⟩ := size_tab hd g2 lst.length (by omega)
  unfold wp_J2_isEmpty
  exact ⟨_, ⟨_, g1, rfl⟩, _, ⟨_, g1, rfl⟩, fun c => h2 (fun q => c (t3.2 q)), fun c => h1 (t3.1 c)⟩
theorem j2_inc {i : Nat} {Q : Int32 → OS → Prop} (hi : i < 17) (hQ : Q (nI ((i + 1) % 17)) σ) : wp_J2_inc (nI i) (Int32.ofNat 17) σ Q := by
  obtain ⟨t1, t2⟩ := inc_tab i hi
  unfold wp_J2_inc
  refine ⟨fun c => ?_, fun c => ?_⟩
  · rw [t1 c]; exact hQ
  · rw [t2 c]; exact hQ
theorem j2_dec {i : Nat} {Q : Int32 → OS → Prop} (hi : i < 17) (hQ : Q (nI ((i + 16) % 17)) σ) : wp_J2_dec (nI i) (Int32.ofNat 17) σ Q := by
  obtain ⟨t1, t2⟩ := dec_tab i hi
  unfold wp_J2_dec
  refine ⟨fun c => ?_, fun c => ?_⟩
  · rw [t1 c]; exact hQ
  · show Q ((17 : Int32) - 1) σ
    rw [t2 c]; exact hQ
theorem j2_removeFirst {Q : Nat → OS → Prop} (h : SDq σ.1 dq (a :: r)) (hQ : ∀ σ' : OS, SDq σ'.1 dq r → σ'.2 = σ.2 → dqFr σ.1 σ'.1 → Q a σ') : wp_J2_removeFirst dq σ Q := by
  obtain ⟨arr, hd, f, g1, g2, g3, g4, g5⟩ := h
  have hl : (a :: r).length = r.length + 1 := rfl
  have hne : arr ≠ dq := by
    rintro rfl
    rw [g1] at g3
    cases g3
  have e0 : f hd = some a := by
    have := g5 0 (by rw [hl]; omega)
    rw [Nat.add_zero, Nat.mod_eq_of_lt g2] at this
    exact this
  unfold wp_J2_removeFirst wp_J2_pollFirst wp_J2_elementAt
  refine ⟨⟨_, g1⟩, arr, ⟨_, g1, rfl⟩, nI hd, ⟨_, g1, rfl⟩, 17, f, g3, vq g2, fun b3 eb3 => ?_⟩
  rw [cq g2, e0] at eb3
  refine ⟨a, eb3, 17, f, g3, vq g2, fun σ6 e6 => ?_⟩
  rw [cq g2] at e6
  have h6a : σ6.1 arr = some (.inl (3, 17, .inr (.inr (.inr (.inr (va_up f hd none)))))) := by rw [e6]; exact a_up_self
  have h6d : σ6.1 dq = some (.inr (9, [.ref arr, .int (nI hd), .int (nI ((hd + (a :: r).length) % 17))])) := by
    rw [e6]
    show a_up σ.1 arr _ dq = _
    rw [a_up_ne (Ne.symm hne)]
    exact g1
  refine ⟨17, _, h6a, j2_inc g2 ⟨_, h6d, by simp, fun σ14 e14 => hQ σ14 ⟨arr, (hd + 1) % 17, va_up f hd none, ?_, by omega, ?_, by omega, fun i hi => ?_⟩ ?_ ?_⟩⟩
  · rw [e14]
    show a_up σ6.1 dq _ dq = _
    rw [a_up_self]
    have e15 : (hd + (a :: r).length) % 17 = ((hd + 1) % 17 + r.length) % 17 := by rw [hl]; omega
    rw [e15]
    rfl
  · rw [e14]
    show a_up σ6.1 dq _ arr = _
    rw [a_up_ne hne]
    exact h6a
  · have e16 : ((hd + 1) % 17 + i) % 17 = (hd + (i + 1)) % 17 := by omega
    have := g5 (i + 1) (by rw [hl]; omega)
    rw [e16]
    unfold va_up
    rw [if_neg (by omega), this]
    rfl
  · rw [e14, e6]
    rfl
  · rw [e14]
    have f1 : dqFr σ.1 σ6.1 := by
      rw [e6]
      exact dqFr.up g3 (Or.inr ⟨_, (), rfl⟩)
    exact f1.trans (dqFr.up h6d (Or.inl ⟨_, rfl⟩))
theorem j2_addLast {Q : OS → Prop} (h : SDq σ.1 dq lst) (hl5 : lst.length < 5) (hp : ∃ w, σ.2.1 p = some w) (hQ : ∀ σ' : OS, SDq σ'.1 dq (lst ++ [p]) → σ'.2 = σ.2 → dqFr σ.1 σ'.1 → Q σ') : wp_J2_addLast dq p σ Q := by
  obtain ⟨arr, hd, f, g1, g2, g3, g4, g5⟩ := h
  have hl : (lst ++ [p]).length = lst.length + 1 := by simp
  have hne : arr ≠ dq := by
    rintro rfl
    rw [g1] at g3
    cases g3
  have ht : (hd + lst.length) % 17 < 17 := by omega
  unfold wp_J2_addLast
  refine ⟨arr, ⟨_, g1, rfl⟩, nI ((hd + lst.length) % 17), ⟨_, g1, rfl⟩, 17, f, g3, vq ht, hp, fun σ3 e3 => ?_⟩
  rw [cq ht] at e3
  have h3a : σ3.1 arr = some (.inl (3, 17, .inr (.inr (.inr (.inr (va_up f ((hd + lst.length) % 17) (some p))))))) := by rw [e3]; exact a_up_self
  have h3d : σ3.1 dq = some (.inr (9, [.ref arr, .int (nI hd), .int (nI ((hd + lst.length) % 17))])) := by
    rw [e3]
    show a_up σ.1 arr _ dq = _
    rw [a_up_ne (Ne.symm hne)]
    exact g1
  refine ⟨nI hd, ⟨_, h3d, rfl⟩, nI ((hd + lst.length) % 17), ⟨_, h3d, rfl⟩, 17, _, h3a, j2_inc ht ⟨_, h3d, by simp, fun σ13 e13 => ⟨fun _ => hQ σ13 ⟨arr, hd, va_up f ((hd + lst.length) % 17) (some p), ?_, g2, ?_, by omega, fun i hi => ?_⟩ ?_ ?_, fun c => ?_⟩⟩⟩
  · rw [e13]
    show a_up σ3.1 dq _ dq = _
    rw [a_up_self, hl]
    have e15 : ((hd + lst.length) % 17 + 1) % 17 = (hd + (lst.length + 1)) % 17 := by omega
    rw [e15]
    rfl
  · rw [e13]
    show a_up σ3.1 dq _ arr = _
    rw [a_up_ne hne]
    exact h3a
  · unfold va_up
    rw [hl] at hi
    by_cases e : i = lst.length
    · subst e
      rw [if_pos rfl, List.getElem?_append_right (Nat.le_refl _), Nat.sub_self]
      rfl
    · rw [if_neg (by omega), List.getElem?_append_left (by omega)]
      exact g5 i (by omega)
  · rw [e13, e3]
    rfl
  · rw [e13]
    have f1 : dqFr σ.1 σ3.1 := by
      rw [e3]
      exact dqFr.up g3 (Or.inr ⟨_, (), rfl⟩)
    exact f1.trans (dqFr.up h3d (Or.inl ⟨_, rfl⟩))
  · have := (nI_eq (by omega) (by omega)).1 c
    omega
theorem j2_removeLast {Q : Nat → OS → Prop} (h : SDq σ.1 dq (r ++ [a])) (hQ : ∀ σ' : OS, SDq σ'.1 dq r → σ'.2 = σ.2 → dqFr σ.1 σ'.1 → Q a σ') : wp_J2_removeLast dq σ Q := by
  obtain ⟨arr, hd, f, g1, g2, g3, g4, g5⟩ := h
  have hl : (r ++ [a]).length = r.length + 1 := by simp
  have hne : arr ≠ dq := by
    rintro rfl
    rw [g1] at g3
    cases g3
  have et : ((hd + (r ++ [a]).length) % 17 + 16) % 17 = (hd + r.length) % 17 := by rw [hl]; omega
  have ht : (hd + r.length) % 17 < 17 := by omega
  have e0 : f ((hd + r.length) % 17) = some a := by
    rw [g5 r.length (by rw [hl]; omega), List.getElem?_append_right (Nat.le_refl _), Nat.sub_self]
    rfl
  unfold wp_J2_removeLast wp_J2_pollLast wp_J2_elementAt
  refine ⟨⟨_, g1⟩, arr, ⟨_, g1, rfl⟩, nI ((hd + (r ++ [a]).length) % 17), ⟨_, g1, rfl⟩, 17, f, g3, j2_dec (by omega) ?_⟩
  rw [et]
  refine ⟨17, f, g3, vq ht, fun b3 eb3 => ?_⟩
  rw [cq ht, e0] at eb3
  refine ⟨a, eb3, _, g1, by simp, fun σ11 e11 => ?_⟩
  have h11a : σ11.1 arr = some (.inl (3, 17, .inr (.inr (.inr (.inr f))))) := by
    rw [e11]
    show a_up σ.1 dq _ arr = _
    rw [a_up_ne hne]
    exact g3
  have h11d : σ11.1 dq = some (.inr (9, [.ref arr, .int (nI hd), .int (nI ((hd + r.length) % 17))])) := by
    rw [e11]
    exact a_up_self
  refine ⟨17, f, h11a, vq ht, fun σ13 e13 => hQ σ13 ⟨arr, hd, va_up f ((hd + r.length) % 17) none, ?_, g2, ?_, by omega, fun i hi => ?_⟩ ?_ ?_⟩
  · rw [e13]
    show a_up σ11.1 arr _ dq = _
    rw [a_up_ne (Ne.symm hne)]
    exact h11d
  · rw [e13, cq ht]
    exact a_up_self
  · unfold va_up
    rw [if_neg (by omega)]
    rw [g5 i (by rw [hl]; omega), List.getElem?_append_left (by omega)]
  · rw [e13, e11]
    rfl
  · rw [e13]
    have f1 : dqFr σ.1 σ11.1 := by
      rw [e11]
      exact dqFr.up g1 (Or.inl ⟨_, rfl⟩)
    exact f1.trans (dqFr.up h11a (Or.inr ⟨_, (), rfl⟩))
end DQ
