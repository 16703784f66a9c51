set_option maxRecDepth 100000
/-! PLAIN: undo, keep, restore -/
def SimN {α : Type} (T x out : Nat) (wpC : (α → OS → Prop) → Prop) (wpM : (α → MS → Prop) → Prop) : Prop :=
  ∃ (v : α) (μ' : MS), (∀ Q, (∀ σ' : OS, RO T x out σ'.1 σ'.2.1 μ' → Q v σ') → wpC Q) ∧ (∀ Q, Q v μ' → wpM Q)
theorem snoc_of : ∀ l : List Nat, l ≠ [] → ∃ r a, l = r ++ [a]
  | [], h => absurd rfl h
  | [a], _ => ⟨[], a, rfl⟩
  | a :: b :: l, _ => by
    obtain ⟨r, c, e⟩ := snoc_of (b :: l) (by simp)
    exact ⟨a :: r, c, by rw [e]; rfl⟩
section UN
variable {T T' x out n j : Nat} {σ : OS} {μ : MS}
theorem sim_savedStates (hR : RO T x out σ.1 σ.2.1 μ) : SimN T x out (wp_X1_savedStates x σ) (wp_X6_savedStates μ) := by
  obtain ⟨hA, dq, sb, l, sO, lst, e1, e2, e3, e4, e5, e6, e7, e8, e9, e10, e11, e12⟩ := id hR
  obtain ⟨sd, hl5, hh⟩ := e3.split
  obtain ⟨arr, hd, ff, d1, -⟩ := id sd
  refine ⟨nI lst.length, mU μ 5 3 0, fun Q hQ => ?_, fun Q hQ => ?_⟩
  · unfold wp_X1_savedStates
    exact ⟨dq, ⟨_, e1, rfl⟩, ⟨_, d1⟩, j2_size sd (hQ σ (hR.thr 0))⟩
  · unfold wp_X6_savedStates
    intro σ1 es
    subst es
    rw [mU_at (by decide), e10]
    exact hQ
theorem sim_undo (hR : RO T x out σ.1 σ.2.1 μ) (hκ : σ.2.2.1 = 5000) : Sim T x out (wp_X1_undo x σ) (wp_X6_undo μ) cd2 := by
  obtain ⟨hA, dq, sb, l, sO, lst, e1, e2, e3, e4, ⟨fo, e5⟩, e6, e7, e8, e9, e10, e11, e12⟩ := id hR
  obtain ⟨sd, hl5, hh⟩ := e3.split
  obtain ⟨arr, hd, ff, d1, -⟩ := id sd
  by_cases c1 : lst.length = 0
  · refine Or.inr ⟨2, 0, mU μ 5 3 1, by decide, fun Q X hX => ?_, fun Q hQ => ?_, mU_us⟩
    · unfold wp_X1_undo
      exact ⟨dq, ⟨_, e1, rfl⟩, ⟨_, d1⟩, j2_isEmpty sd (fun _ => jnI ⟨fun _ => ⟨fun d => absurd rfl d, fun _ => ⟨by omega, hX (oXs σ 0) (hR.thr 1)⟩⟩, fun d => absurd d (by decide)⟩) (fun d => absurd c1 d)⟩
    · unfold wp_X6_undo
      rw [e10, c1]
      exact jnI ⟨fun _ => goes1 rfl ⟨fun d => absurd rfl d, fun _ => hQ⟩, fun d => absurd (by decide : nI 0 ≤ 0) d⟩
  · obtain ⟨r, a, rfl⟩ := snoc_of lst (fun q => c1 (by rw [q]; rfl))
    have hl : (r ++ [a]).length = r.length + 1 := by simp
    have hla : (r ++ [a])[r.length]? = some a := by
      rw [List.getElem?_append_right (Nat.le_refl _), Nat.sub_self]
      rfl
    have hra : ∀ i, i < r.length → (r ++ [a])[i]? = r[i]? := fun i hi => List.getElem?_append_left hi
    have nda : r.Nodup ∧ a ∉ r := by
      rw [List.nodup_append] at e7
      exact ⟨e7.1, fun q => e7.2.2 a q a (List.mem_singleton.2 rfl) rfl⟩
    have hz0 : ∀ i, i < 153 → cpS (mU (mU μ 5 3 0) 5 0 (nI r.length)) 2 (153 * r.length) 0 0 153 0 i = μ 2 (153 * r.length + i) := fun i hi => by
      rw [cpS_at, if_pos (by omega), mU_at (by omega), mU_at (by omega), Nat.sub_zero]
    refine Or.inl ⟨nI r.length, cpS (mU (mU μ 5 3 0) 5 0 (nI r.length)) 2 (153 * r.length) 0 0 153, fun Q X hQ => ?_, fun Q hQ => ?_, ?_⟩
    · unfold wp_X1_undo
      refine ⟨dq, ⟨_, e1, rfl⟩, ⟨_, d1⟩, j2_isEmpty sd (fun d => absurd d c1) (fun _ => jnI ⟨fun d => absurd rfl d, fun _ => ⟨fun _ => ⟨dq, ⟨_, e1, rfl⟩, ⟨_, d1⟩, j2_removeLast sd (fun σ9 a1 a2 a3 => ?_)⟩, fun d => absurd d (by decide)⟩⟩)⟩
      have hH9 : σ9.2.1 = σ.2.1 := congrArg Prod.fst a2
      have x9 : σ9.1 x = some (.inr (0, [.ref hA, va_rf sO, .ref dq, .ref sb])) := a3 _ _ e1 (fun h => by rcases h with ⟨f, h⟩ | ⟨n, f, h⟩ <;> cases h)
      obtain ⟨ya, La, na, w1, w2⟩ := hh r.length a hla
      refine ⟨⟨_, by rw [hH9]; exact w1⟩, _, x9, by simp, fun σ12 e12' => ?_⟩
      have x12 : σ12.1 x = some (.inr (0, [.ref a, va_rf sO, .ref dq, .ref sb])) := by
        rw [e12']
        exact a_up_self
      have hAe : ∀ q e, σ9.1 q = some e → (∀ f, e ≠ .inr (0, f)) → σ12.1 q = some e := fun q e hq hn => by
        rw [e12']
        show a_up σ9.1 x _ q = _
        rw [a_up_ne]
        · exact hq
        · rintro rfl
          rw [hq] at x9
          cases x9
          exact hn _ rfl
      have hAll : ∀ q e, σ.1 q = some e → (∀ f, e ≠ .inr (0, f)) → ¬ dqK e → σ12.1 q = some e := fun q e hq hn hk => hAe q e (a3 _ _ hq hk) hn
      have sd12 : SDq σ12.1 dq r := a1.ext (fun q e hk hq => hAe q e hq (fun f he => by
        rw [he] at hk
        rcases hk with ⟨f, h⟩ | ⟨n, f, h⟩ <;> cases h))
      obtain ⟨arr', hd', ff', d12, -⟩ := id sd12
      refine ⟨dq, ⟨_, x12, rfl⟩, ⟨_, d12⟩, j2_size sd12 (hQ σ12 ?_)⟩
      have hH12 : σ12.2.1 = σ.2.1 := by rw [e12']; exact hH9
      rw [hH12]
      refine ⟨a, dq, sb, l, sO, r, x12, (hh r.length a hla).ext (Nat.le_refl _) (fun _ h => h) hz0, RDq.of sd12 (fun i b hi => ?_), ?_, ⟨fo, hAll _ _ e5 (fun f h => by cases h) (fun h => by rcases h with ⟨f, h⟩ | ⟨n, f, h⟩ <;> cases h)⟩, nda.2, nda.1, fun q => ?_, fun b hb => ⟨fun q => (e9 b hb).1 (List.mem_append_left _ q), ?_⟩, ?_, ?_, ?_⟩
      · have hi2 := get_lt hi
        refine (hh i b (by rw [hra i hi2]; exact hi)).ext (Nat.le_refl _) (fun _ h => h) (fun k hk => ?_)
        show cpS _ 2 _ 0 0 153 2 (153 * i + k) = μ 2 (153 * i + k)
        rw [cpS_ne (by decide), mU_at (by omega), mU_at (by omega)]
      · obtain ⟨bts, cap, f, m, t1, t2, t3⟩ := e4
        exact ⟨bts, cap, f, m, hAll _ _ t1 (fun f h => by cases h) (fun h => by rcases h with ⟨f, h⟩ | ⟨n, f, h⟩ <;> cases h), hAll _ _ t2 (fun f h => by cases h) (fun h => by rcases h with ⟨f, h⟩ | ⟨n, f, h⟩ <;> cases h), t3⟩
      · exact (e9 a q).1 (List.mem_append_right _ (List.mem_singleton.2 rfl))
      · exact (e9 b hb).2
      · rw [cpS_ne (by decide)]
        exact mU_us
      · rw [cpS_ne (by decide), mU_at (by decide), mU_at (by decide)]
        exact e11
      · rw [cpS_ne (by decide), mU_at (by decide), mU_at (by decide)]
        exact e12
    · unfold wp_X6_undo
      rw [e10, hl]
      refine jnI ⟨fun d => absurd d (nI_nle (by omega) (by omega)), fun _ => goesY (by decide) (by decide) ⟨fun _ => fun σ7 e7 => ?_, fun d => absurd d (by decide)⟩⟩
      rw [mU_at (by decide), e10, hl, nI_pred] at e7
      subst e7
      rw [mU_us, m153]
      refine x6_copyState (a1 := 153 * r.length) (a2 := 0) (by decide) (by show 153 * r.length + 153 ≤ 765; omega) (by decide) ?_
      have e8 : cpS (mU (mU μ 5 3 0) 5 0 (nI r.length)) 2 (153 * r.length) 0 0 153 5 0 = nI r.length := by
        rw [cpS_ne (by decide)]
        exact mU_us
      rw [e8]
      exact hQ
    · rw [cpS_ne (by decide), mU_at (by decide)]
      exact mU_us
theorem sim_keep (hR : RO T x out σ.1 σ.2.1 μ) (hκ : σ.2.2.1 = 5000) : SimN T x out (wp_X1_keep x σ) (wp_X6_keep μ) := by
  obtain ⟨hA, dq, sb, l, sO, lst, e1, e2, e3, e4, ⟨fo, e5⟩, e6, e7, e8, e9, e10, e11, e12⟩ := id hR
  obtain ⟨sd, hl5, hh⟩ := e3.split
  obtain ⟨y, L, n, f1, f2, f3⟩ := id e2
  have hzk : ∀ i, i < 153 → mU (cpS (mU μ 5 3 0) 0 0 3 0 153) 5 1 1 3 i = μ 0 i := fun i hi => by
    rw [mU_at (by omega), cpS_at, if_pos (by omega), mU_at (by omega)]
    rw [Nat.sub_zero, Nat.zero_add]
  have hzn : ∀ b i, b ≠ 3 → b ≠ 5 → mU (cpS (mU μ 5 3 0) 0 0 3 0 153) 5 1 1 b i = μ b i := fun b i h3 h5 => by
    rw [mU_at (Or.inl h5), cpS_ne h3, mU_at (Or.inl h5)]
  refine ⟨μ 0 0, mU (cpS (mU μ 5 3 0) 0 0 3 0 153) 5 1 1, fun Q hQ => ?_, fun Q hQ => ?_⟩
  · unfold wp_X1_keep
    refine ⟨by omega, fun q1 b1 b2 σ2 b3 => ?_⟩
    have x2 : σ2.1 x = some (.inr (0, [.ref hA, va_rf sO, .ref dq, .ref sb])) := by
      rw [b3]
      show a_up σ.1 q1 _ x = _
      have := b1.1 _ _ e1
      rw [a_up_ne (by omega)]
      exact e1
    refine ⟨hA, ⟨_, x2, rfl⟩, x2_copy (n := n) (w := (y, L)) b1 b3 f1 f2.lots f2.zOK.2.1 f2.lit (by omega) (fun σ5 c1 c2 c3 c4 => ?_)⟩
    refine ⟨_, c1 _ _ e1, by simp, fun σ6 d6 => ?_⟩
    have x6 : σ6.1 x = some (.inr (0, [.ref hA, .ref q1, .ref dq, .ref sb])) := by
      rw [d6]
      exact a_up_self
    have hlt : ∀ a w, σ.2.1 a = some w → a ≠ q1 := fun a w hw => by
      have := b1.2 a w hw
      omega
    have hH6 : σ6.2.1 = fun q => if q = q1 then some (cpY y n, L) else σ.2.1 q := by rw [d6]; exact c2
    have hHe : ∀ a, ∀ w, σ.2.1 a = some w → σ6.2.1 a = some w := fun a w hw => by
      rw [hH6]
      show (if a = q1 then _ else σ.2.1 a) = _
      rw [if_neg (hlt a w hw)]
      exact hw
    have hAe : ∀ q e, σ.1 q = some e → (∀ f, e ≠ .inr (0, f)) → σ6.1 q = some e := fun q e hq hn => by
      rw [d6]
      show a_up σ5.1 x _ q = _
      rw [a_up_ne]
      · exact c1 _ _ hq
      · rintro rfl
        rw [hq] at e1
        cases e1
        exact hn _ rfl
    refine ⟨hA, ⟨_, x6, rfl⟩, (y, L), hHe _ _ f1, ?_⟩
    show Q (y 11 2) σ6
    rw [f2.1.1]
    refine hQ σ6 ⟨hA, dq, sb, l, some q1, lst, x6, e2.ext (Nat.le_refl _) (hHe _) (fun i _ => hzn 0 i (by decide) (by decide)), RDq.of (sd.ext (fun q e hk hq => hAe q e hq (fun f he => by
        rw [he] at hk
        rcases hk with ⟨f, h⟩ | ⟨n, f, h⟩ <;> cases h))) (fun i a hi => ?_), ?_, ⟨fo, hAe _ _ e5 (fun f h => by cases h)⟩, e6, e7, fun q => ?_, fun a ha => ?_, ?_, ?_, ?_⟩
    · refine (hh i a hi).ext (Nat.le_refl _) (hHe a) (fun k _ => ?_)
      exact hzn 2 _ (by decide) (by decide)
    · obtain ⟨bts, cap, f, m, t1, t2, t3⟩ := e4
      refine ⟨bts, cap, f, m, hAe _ _ t1 (fun f h => by cases h), hAe _ _ t2 (fun f h => by cases h), ?_⟩
      have e44 : mU (cpS (mU μ 5 3 0) 0 0 3 0 153) 5 1 1 4 = μ 4 := funext fun i => hzn 4 i (by decide) (by decide)
      rw [e44]
      exact t3
    · exact hlt hA _ f1 (Option.some.inj q).symm
    · have e13 : q1 = a := Option.some.inj ha
      subst e13
      refine ⟨fun q => ?_, cpY y n, L, n, by rw [hH6]; exact if_pos rfl, ?_, litk_zc (z := μ 0) hzk f2.zOK.2.1 f3⟩
      · obtain ⟨i, hi⟩ := List.getElem?_of_mem q
        obtain ⟨y', L', n', w1, -⟩ := hh i _ hi
        exact hlt _ _ w1 rfl
      · exact RH.zc (z := μ 0) hzk (f2.copy (fun b i hb hi => if_neg (by omega)) (fun b d hb _ _ => if_neg (by omega)) (fun i _ => if_neg (by omega)))
    · rw [mU_at (by decide), cpS_ne (by decide), mU_at (by decide)]
      exact e10
    · rw [mU_us]
      rfl
    · rw [mU_at (by decide), cpS_ne (by decide), mU_at (by decide)]
      exact e12
  · unfold wp_X6_keep
    intro σ1 es1
    subst es1
    refine x6_copyState (a1 := 0) (a2 := 0) (by decide) (by decide) (by decide) (fun σ3 es3 => ⟨zv0, ?_⟩)
    rw [zc0, es3, hzn 0 0 (by decide) (by decide)]
    exact hQ
theorem sim_restore (hR : RO T x out σ.1 σ.2.1 μ) (hκ : σ.2.2.1 = 5000) : Sim T x out (wp_X1_restore x σ) (wp_X6_restore μ) cd2 := by
  obtain ⟨hA, dq, sb, l, sO, lst, e1, e2, e3, e4, ⟨fo, e5⟩, e6, e7, e8, e9, e10, e11, e12⟩ := id hR
  have hl5 := e3.split.2.1
  rcases sO with _ | so
  · refine Or.inr ⟨2, 0, mU μ 5 3 1, by decide, fun Q X hX => ?_, fun Q hQ => ?_, mU_us⟩
    · unfold wp_X1_restore
      exact ⟨none, ⟨_, e1, rfl⟩, jnI ⟨fun _ => ⟨fun d => absurd rfl d, fun _ => ⟨by omega, hX (oXs σ 0) (hR.thr 1)⟩⟩, fun r d => (by cases d)⟩⟩
    · unfold wp_X6_restore
      rw [e11]
      exact goes1 rfl ⟨fun d => absurd rfl d, fun _ => hQ⟩
  · have hR1 := hR.thr 0
    have hs1 : mU μ 5 3 0 5 0 = nI lst.length := (mU_at (by decide)).trans e10
    obtain ⟨-, y0, L0, n0, k1, k2, k3⟩ := e9 so rfl
    have hzk : ∀ i, i < 153 → cpS (recS (mU μ 5 3 0) lst.length) 3 0 0 0 153 0 i = μ 3 i := fun i hi => by
      rw [cpS_at, if_pos (by omega), recS_3, mU_at (by omega), Nat.sub_zero, Nat.zero_add]
    refine Or.inl ⟨μ 3 0, cpS (recS (mU μ 5 3 0) lst.length) 3 0 0 0 153, fun Q X hQ => ?_, fun Q hQ => ?_, ?_⟩
    · unfold wp_X1_restore
      refine ⟨some so, ⟨_, e1, rfl⟩, jnI ⟨fun d => (by cases d), fun r _ => ⟨fun _ => ⟨⟨_, e1⟩, x1_save hR1 hs1 hl5 (by omega) (fun σ5 r1 r2 r3 => ?_)⟩, fun d => absurd d (by decide)⟩⟩⟩
      obtain ⟨hA', dq', sb', l', sO', lst', g1, g2, g3, g4, ⟨fo', g5⟩, g6, g7, g8, g9, g10, g11, g12⟩ := r1
      obtain ⟨sd, hl5', hh⟩ := g3.split
      have hso : ∃ s', sO' = some s' := by
        rcases sO' with _ | s'
        · rw [if_pos rfl, recS_5n (by decide), mU_at (by decide), e11] at g11
          exact absurd g11 (by simp)
        · exact ⟨s', rfl⟩
      obtain ⟨s', rfl⟩ := hso
      obtain ⟨gn, y', L', n', p1, p2, p3⟩ := g9 s' rfl
      refine ⟨by omega, fun q6 b1 b2 σ7 b3 => ?_⟩
      have x7 : σ7.1 x = some (.inr (0, [.ref hA', .ref s', .ref dq', .ref sb'])) := by
        rw [b3]
        show a_up σ5.1 q6 _ x = _
        have := b1.1 _ _ g1
        rw [a_up_ne (by omega)]
        exact g1
      refine ⟨some s', ⟨_, x7, rfl⟩, s', rfl, x2_copy (n := n') (w := (y', L')) b1 b3 p1 p2.lots p2.zOK.2.1 p2.lit (by omega) (fun σ11 c1 c2 c3 c4 => ?_)⟩
      refine ⟨_, c1 _ _ g1, by simp, fun σ12 d12 => ?_⟩
      have x12 : σ12.1 x = some (.inr (0, [.ref q6, .ref s', .ref dq', .ref sb'])) := by
        rw [d12]
        exact a_up_self
      have hlt : ∀ a w, σ5.2.1 a = some w → a ≠ q6 := fun a w hw => by
        have := b1.2 a w hw
        omega
      have hH12 : σ12.2.1 = fun q => if q = q6 then some (cpY y' n', L') else σ5.2.1 q := by rw [d12]; exact c2
      have hHe : ∀ a, ∀ w, σ5.2.1 a = some w → σ12.2.1 a = some w := fun a w hw => by
        rw [hH12]
        show (if a = q6 then _ else σ5.2.1 a) = _
        rw [if_neg (hlt a w hw)]
        exact hw
      have hAe : ∀ q e, σ5.1 q = some e → (∀ f, e ≠ .inr (0, f)) → σ12.1 q = some e := fun q e hq hn => by
        rw [d12]
        show a_up σ11.1 x _ q = _
        rw [a_up_ne]
        · exact c1 _ _ hq
        · rintro rfl
          rw [hq] at g1
          cases g1
          exact hn _ rfl
      have h6 : σ12.2.1 q6 = some (cpY y' n', L') := by rw [hH12]; exact if_pos rfl
      refine ⟨q6, ⟨_, x12, rfl⟩, (cpY y' n', L'), h6, ?_⟩
      have ev : cpY y' n' 11 2 = μ 3 0 := by
        have : cpY y' n' 11 2 = y' 11 2 := if_neg (by omega)
        rw [this, p2.1.1, recS_3, mU_at (by decide)]
      show Q (cpY y' n' 11 2) σ12
      rw [ev]
      have hz3 : ∀ i, i < 153 → cpS (recS (mU μ 5 3 0) lst.length) 3 0 0 0 153 0 i = recS (mU μ 5 3 0) lst.length 3 i := fun i hi => by
        rw [hzk i hi, recS_3, mU_at (by omega)]
      refine hQ σ12 ⟨q6, dq', sb', l', some s', lst', x12, ⟨cpY y' n', L', n', h6, RH.zc hz3 (p2.copy (fun b i hb hi => if_neg (by omega)) (fun b d hb _ _ => if_neg (by omega)) (fun i _ => if_neg (by omega))), litk_zc hz3 p2.zOK.2.1 p3⟩, RDq.of (sd.ext (fun q e hk hq => hAe q e hq (fun f he => by
        rw [he] at hk
        rcases hk with ⟨f, h⟩ | ⟨n, f, h⟩ <;> cases h))) (fun i a hi => (hh i a hi).ext (Nat.le_refl _) (hHe a) (fun k _ => by
          show cpS _ 3 0 0 0 153 2 _ = _
          rw [cpS_ne (by decide)])), ?_, ⟨fo', hAe _ _ g5 (fun f h => by cases h)⟩, fun q => ?_, g7, fun q => ?_, fun a ha => ⟨(g9 a ha).1, (g9 a ha).2.ext (Nat.le_refl _) (hHe a) (fun k _ => by rw [cpS_ne (by decide)])⟩, ?_, ?_, ?_⟩
      · rw [cpS_ne (by decide)]
        obtain ⟨bts, cap, f, m, t1, t2, t3⟩ := g4
        exact ⟨bts, cap, f, m, hAe _ _ t1 (fun f h => by cases h), hAe _ _ t2 (fun f h => by cases h), t3⟩
      · obtain ⟨i, hi⟩ := List.getElem?_of_mem q
        obtain ⟨y9, L9, n9, w1, -⟩ := hh i _ hi
        exact hlt _ _ w1 rfl
      · exact hlt s' _ p1 (Option.some.inj q)
      · rw [cpS_ne (by decide)]; exact g10
      · rw [cpS_ne (by decide)]; exact g11
      · rw [cpS_ne (by decide)]; exact g12
    · unfold wp_X6_restore
      rw [e11, if_neg (by simp)]
      refine goesY (by decide) (by decide) ⟨fun _ => x6_record hs1 hl5 (x6_copyState (a1 := 0) (a2 := 0) (by decide) (by decide) (by decide) ⟨zv0, ?_⟩), fun d => absurd d (by decide)⟩
      rw [zc0, hzk 0 (by decide)]
      exact hQ
    · rw [cpS_ne (by decide), recS_5n (by decide)]
      exact mU_us
end UN
