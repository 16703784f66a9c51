set_option maxRecDepth 100000
/-! PLAIN: a state is saved, on both sides -/
section SV
variable {T x out s : Nat} {σ : OS} {μ : MS}
theorem SDq.ext {A A' : AH} {dq : Nat} {lst : List Nat} (h : SDq A dq lst) (hA : ∀ q e, dqK e → A q = some e → A' q = some e) : SDq A' dq lst := by
  obtain ⟨arr, hd, f, h1, h2, h3, h4⟩ := h
  exact ⟨arr, hd, f, hA _ _ (Or.inl ⟨_, rfl⟩) h1, h2, hA _ _ (Or.inr ⟨_, (), rfl⟩) h3, h4⟩
theorem RDq.split {A : AH} {H : HM} {dq : Nat} {lst : List Nat} {p : Zz} (h : RDq T A H dq lst p) : SDq A dq lst ∧ lst.length ≤ 5 ∧ ∀ i a, lst[i]? = some a → RHo T H a (fun k => p (153 * i + k)) := by
  obtain ⟨arr, hd, f, h1, h2, h3, h4, h5, h6⟩ := h
  exact ⟨⟨arr, hd, f, h1, h2, h3, h4, h5⟩, h4, h6⟩
theorem RDq.of {A : AH} {H : HM} {dq : Nat} {lst : List Nat} {p : Zz} (h : SDq A dq lst) (h6 : ∀ i a, lst[i]? = some a → RHo T H a (fun k => p (153 * i + k))) : RDq T A H dq lst p := by
  obtain ⟨arr, hd, f, h1, h2, h3, h4, h5⟩ := h
  exact ⟨arr, hd, f, h1, h2, h3, h4, h5, h6⟩
theorem RH.lit {y : MS} {L : List Int32} {z : Zz} {n : Nat} (h : RH T y L z n) : y 11 3 = 0 ∨ y 11 3 = 1 := by
  rw [h.1.2.1]
  exact h.2.2.2.2.2.2.2.2.1
theorem snoc_nodup {l : List Nat} {a : Nat} (h : l.Nodup) (ha : a ∉ l) : (l ++ [a]).Nodup := by
  rw [List.nodup_append]
  refine ⟨h, by simp, fun b hb c hc => ?_⟩
  rw [List.mem_singleton] at hc
  rintro rfl
  exact ha (hc ▸ hb)
theorem get_lt {l : List Nat} {i a : Nat} (h : l[i]? = some a) : i < l.length := by
  rcases Nat.lt_or_ge i l.length with q | q
  · exact q
  · rw [List.getElem?_eq_none q] at h
    cases h
theorem x1_saveF {Q : OS → Prop} (hR : RO T x out σ.1 σ.2.1 μ) (hs : μ 5 0 = nI s) (hs5 : s ≤ 5) (hκ : 40 ≤ σ.2.2.1) (hQ : ∀ σ' : OS, RO T x out σ'.1 σ'.2.1 (recS μ s) → σ.2.2.1 ≤ σ'.2.2.1 + 30 → σ'.2.2.2.1 = 0 → (∀ q e, σ.1 q = some e → (∀ f, e ≠ .inr (0, f)) → ¬ dqK e → σ'.1 q = some e) → Q σ') : wp_X1_save x σ Q := by
  obtain ⟨hA, dq, sb, l, sO, lst, e1, e2, e3, e4, ⟨fo, e5⟩, e6, e7, e8, e9, e10, e11, e12⟩ := hR
  obtain ⟨sd, hl5, hh⟩ := e3.split
  have hls : lst.length = s := (nI_eq (by omega) (by omega)).1 (e10.symm.trans hs)
  obtain ⟨y, L, n, f1, f2, f3⟩ := id e2
  have main : ∀ (σ6 : OS) (lst' : List Nat), SDq σ6.1 dq lst' → lst'.length < 5 → σ6.2 = σ.2 → dqFr σ.1 σ6.1 → (∀ a, a ∈ lst' → a ∈ lst) → lst'.Nodup → (∀ i a, lst'[i]? = some a → RHo T σ.2.1 a (fun k => recS μ s 2 (153 * i + k))) → (∀ k, k < 153 → recS μ s 2 (153 * lst'.length + k) = μ 0 k) → (if s = 5 then 5 else s + 1) = lst'.length + 1 → (∃ r7 : Nat, oF σ6 x 0 2 (.ref r7) ∧ (∃ r8 : Nat, oF σ6 x 0 0 (.ref r8) ∧ (oC σ6 r7 9 ∧ wp_J2_addLast r7 r8 σ6 (fun σ9 => (3 ≤ σ9.2.2.1 ∧ ∀ q10 : Nat, oFr σ9 q10 → (σ9.2.2.2.1 ≠ 0 → q10 = σ9.2.2.2.1) → ∀ σ11 : OS, σ11 = oNew σ9 q10 3 (.inr (1, [.null, .null, .null, .null, .null, .null, .null, .null, .null, .null, .int 0, .int 0, .int 0, .int 0, .int 0, .int 0, .int 0, .int 0, .int 0, .int 0, .int 0, .int 0])) → (∃ r12 : Nat, oF σ11 x 0 0 (.ref r12) ∧ wp_X2_init_2 q10 r12 σ11 (fun σ13 => (∃ (y : MS) (L : List Int32), oHouse σ13 q10 y L ∧ ∀ σ14 : OS, σ14 = oFold σ13 q10 y L → (∃ fs16 : List Value, σ14.1 x = some (.inr (0, fs16)) ∧ 0 < fs16.length ∧ ∀ σ15 : OS, σ15 = (oPut σ14 x (.inr (0, fs16.set 0 (.ref q10)))) → (Q σ15))))))))))  := by
    intro σ6 lst' g1 g2 g3 g4 g5 g6 g7 g8 g9
    have x6 : σ6.1 x = some (.inr (0, [.ref hA, va_rf sO, .ref dq, .ref sb])) := g4 _ _ e1 (fun h => by rcases h with ⟨f, h⟩ | ⟨n, f, h⟩ <;> cases h)
    have hH6 : σ6.2.1 = σ.2.1 := congrArg Prod.fst g3
    obtain ⟨arr, hd, ff, d1, -⟩ := id g1
    refine ⟨dq, ⟨_, x6, rfl⟩, hA, ⟨_, x6, rfl⟩, ⟨_, d1⟩, j2_addLast g1 g2 ⟨(y, L), by rw [hH6]; exact f1⟩ (fun σ9 a1 a2 a3 => ?_)⟩
    have x9 : σ9.1 x = some (.inr (0, [.ref hA, va_rf sO, .ref dq, .ref sb])) := a3 _ _ x6 (fun h => by rcases h with ⟨f, h⟩ | ⟨n, f, h⟩ <;> cases h)
    have h92 : σ9.2 = σ.2 := a2.trans g3
    have hH9 : σ9.2.1 = σ.2.1 := congrArg Prod.fst h92
    have hk9 : σ9.2.2.1 = σ.2.2.1 := congrArg (fun q => q.2.1) h92
    refine ⟨by omega, fun q10 b1 b2 σ11 b3 => ?_⟩
    have x11 : σ11.1 x = some (.inr (0, [.ref hA, va_rf sO, .ref dq, .ref sb])) := by
      rw [b3]
      show a_up σ9.1 q10 _ x = _
      have := b1.1 _ _ x9
      rw [a_up_ne (by omega)]
      exact x9
    refine ⟨hA, ⟨_, x11, rfl⟩, x2_copy (n := n) (w := (y, L)) b1 b3 (by rw [hH9]; exact f1) f2.lots f2.zOK.2.1 f2.lit (by omega) (fun σ14 c1 c2 c3 c4 => ?_)⟩
    · refine ⟨_, c1 _ _ x9, by simp, fun σ15 d15 => hQ σ15 ?_ ?_ ?_ ?_⟩
      · have hlt : ∀ a w, σ.2.1 a = some w → a ≠ q10 := fun a w hw => by
          have := b1.2 a w (by rw [hH9]; exact hw)
          omega
        have hHe : ∀ a, ∀ w, σ.2.1 a = some w → σ14.2.1 a = some w := fun a w hw => by
          rw [c2]
          show (if a = q10 then _ else σ9.2.1 a) = _
          rw [if_neg (hlt a w hw), hH9]
          exact hw
        have hAe : ∀ q e, σ14.1 q = some e → (∀ f, e ≠ .inr (0, f)) → σ15.1 q = some e := fun q e hq hn => by
          rw [d15]
          show a_up σ14.1 x _ q = _
          rw [a_up_ne]
          · exact hq
          · rintro rfl
            have := c1 _ _ x9
            rw [hq] at this
            cases this
            exact hn _ rfl
        have hAll : ∀ q e, σ.1 q = some e → (∀ f, e ≠ .inr (0, f)) → ¬ dqK e → σ15.1 q = some e := fun q e hq hn hk => hAe q e (c1 _ _ (a3 _ _ (g4 _ _ hq hk) hk)) hn
        have hH15 : σ15.2.1 = σ14.2.1 := by rw [d15]; rfl
        have hmem : ∀ a, a ∈ lst' ++ [hA] → ∃ w, σ.2.1 a = some w := fun a ha => by
          rcases List.mem_append.1 ha with q | q
          · obtain ⟨i, hi⟩ := List.getElem?_of_mem q
            obtain ⟨y', L', n', w1, -⟩ := g7 i a hi
            exact ⟨_, w1⟩
          · rw [List.mem_singleton] at q
            exact ⟨(y, L), by rw [q]; exact f1⟩
        have hAn : hA ∉ lst' := fun q => e6 (g5 _ q)
        rw [hH15]
        refine ⟨q10, dq, sb, l, sO, lst' ++ [hA], ?_, ⟨cpY y n, L, n, ?_, ?_, ?_⟩, RDq.of (SDq.ext a1 (fun q e hk hq => hAe q e (c1 _ _ hq) (fun f he => ?_))) (fun i a hi => ?_), ?_, ⟨fo, ?_⟩, fun q => ?_, snoc_nodup g6 hAn, fun q => ?_, fun a ha => ⟨fun q => ?_, ?_⟩, ?_, ?_, ?_⟩
        · rw [d15]
          exact a_up_self
        · rw [c2]
          exact if_pos rfl
        · rw [recS_0]
          refine f2.copy (fun b i hb hi => if_neg (by omega)) (fun b d hb _ _ => if_neg (by omega)) (fun i _ => if_neg (by omega))
        · rw [recS_0]
          exact f3
        · rw [he] at hk
          rcases hk with ⟨f, h⟩ | ⟨n, f, h⟩ <;> cases h
        · by_cases q : i < lst'.length
          · rw [List.getElem?_append_left q] at hi
            exact (g7 i a hi).ext (Nat.le_refl _) (hHe a) (fun _ _ => rfl)
          · have h1 := get_lt hi
            have e13 : i = lst'.length := by rw [List.length_append, List.length_singleton] at h1; omega
            subst e13
            rw [List.getElem?_append_right (Nat.le_refl _), Nat.sub_self] at hi
            have e14 : hA = a := Option.some.inj hi
            subst e14
            exact e2.ext (Nat.le_refl _) (hHe _) (fun k hk => g8 k hk)
        · rw [recS_4]
          obtain ⟨bts, cap, f, m, t1, t2, t3⟩ := e4
          exact ⟨bts, cap, f, m, hAll _ _ t1 (fun f h => by cases h) (fun h => by rcases h with ⟨f, h⟩ | ⟨n, f, h⟩ <;> cases h), hAll _ _ t2 (fun f h => by cases h) (fun h => by rcases h with ⟨f, h⟩ | ⟨n, f, h⟩ <;> cases h), t3⟩
        · exact hAll _ _ e5 (fun f h => by cases h) (fun h => by rcases h with ⟨f, h⟩ | ⟨n, f, h⟩ <;> cases h)
        · obtain ⟨w, hw⟩ := hmem _ q
          exact hlt _ _ hw rfl
        · obtain ⟨-, y', L', n', w1, -⟩ := e9 _ q
          exact hlt _ _ w1 rfl
        · rcases List.mem_append.1 q with r | r
          · exact (e9 a ha).1 (g5 _ r)
          · rw [List.mem_singleton] at r
            exact e8 (by rw [ha, r])
        · rw [recS_3]
          exact (e9 a ha).2.ext (Nat.le_refl _) (hHe a) (fun _ _ => rfl)
        · rw [recS_50, g9, List.length_append, List.length_singleton]
        · rw [recS_5n (by decide)]
          exact e11
        · rw [recS_5n (by decide)]
          exact e12
      · rw [d15]
        show σ.2.2.1 ≤ σ14.2.2.1 + 30
        omega
      · rw [d15]
        exact c4
      · intro q e hq hn hk
        rw [d15]
        show a_up σ14.1 x _ q = _
        rw [a_up_ne]
        · exact c1 _ _ (a3 _ _ (g4 _ _ hq hk) hk)
        · rintro rfl
          rw [e1] at hq
          exact hn _ (Option.some.inj hq).symm
  unfold wp_X1_save
  obtain ⟨arr, hd, ff, d1, -⟩ := id sd
  refine ⟨dq, ⟨_, e1, rfl⟩, ⟨_, d1⟩, j2_size sd (jnI ⟨fun c => main σ lst sd ?_ rfl (fun _ _ h _ => h) (fun _ h => h) e7 (fun i a hi => ?_) (fun k hk => ?_) ?_, fun c => ?_⟩)⟩
  · have : s ≠ 5 := fun q => c (by rw [hls, q]; rfl)
    omega
  · have h5 : s ≠ 5 := fun q => c (by rw [hls, q]; rfl)
    have hi2 := get_lt hi
    refine (hh i a hi).ext (Nat.le_refl _) (fun _ h => h) (fun k hk => ?_)
    show recS μ s 2 (153 * i + k) = μ 2 (153 * i + k)
    rw [recS_2 hs5 (by omega) hk, if_neg h5, if_neg (by omega)]
  · have h5 : s ≠ 5 := fun q => c (by rw [hls, q]; rfl)
    rw [hls, recS_2 hs5 (by omega) hk, if_neg h5, if_pos rfl]
  · have h5 : s ≠ 5 := fun q => c (by rw [hls, q]; rfl)
    rw [if_neg h5, hls]
  · have h5 : s = 5 := by
      rw [hls] at c
      exact (nI_eq (a := s) (b := 5) (by omega) (by decide)).1 c
    rcases lst with _ | ⟨a0, r⟩
    · exact absurd hls (by rw [h5]; decide)
    · have hr : r.length = 4 := by
        have : (a0 :: r).length = r.length + 1 := rfl
        omega
      obtain ⟨n1, n2⟩ := List.nodup_cons.1 e7
      refine ⟨dq, ⟨_, e1, rfl⟩, ⟨_, d1⟩, j2_removeFirst sd (fun σ' a1 a2 a3 => main σ' r a1 (by omega) a2 a3 (fun a ha => List.mem_cons_of_mem _ ha) n2 (fun i a hi => ?_) (fun k hk => ?_) ?_)⟩
      · have hi2 := get_lt hi
        refine (hh (i + 1) a hi).ext (Nat.le_refl _) (fun _ h => h) (fun k hk => ?_)
        show recS μ s 2 (153 * i + k) = μ 2 (153 * (i + 1) + k)
        rw [recS_2 hs5 (by omega) hk, if_pos h5, if_neg (by omega)]
      · rw [hr, recS_2 hs5 (by omega) hk, if_pos h5, if_pos rfl]
      · rw [if_pos h5, hr]
theorem x1_save {Q : OS → Prop} (hR : RO T x out σ.1 σ.2.1 μ) (hs : μ 5 0 = nI s) (hs5 : s ≤ 5) (hκ : 40 ≤ σ.2.2.1) (hQ : ∀ σ' : OS, RO T x out σ'.1 σ'.2.1 (recS μ s) → σ.2.2.1 ≤ σ'.2.2.1 + 30 → σ'.2.2.2.1 = 0 → Q σ') : wp_X1_save x σ Q :=
  x1_saveF hR hs hs5 hκ (fun σ' a b c _ => hQ σ' a b c)
end SV
