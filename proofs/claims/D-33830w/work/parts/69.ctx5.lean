set_option maxRecDepth 100000
/-! THE START: the context -/
theorem vkR_eval {own tx : String} {k a : Nat} {args : Array Value} {s : State} (h : vk_R own k tx a s) : (Term.string own k).eval args s none [] s = some (.ref a) := h.2
theorem st_all {args : Array Value} {s : State} {A : Nat → Prop} (hts : ∀ w ∈ lw_tbl, w.before args s = true) (hn : ∀ w ∈ flatC (Jvm.Cond.and given_1 narrow_1), w.before args s = true) (hA : ∀ a : Nat, a < s.heap.size → ¬ A a) : ∃ G : aG, aK G s ∧ aSC G A s s.heap := by
  obtain ⟨D, hD⟩ := st_cls (fun w h => hts w (lw_all_tbl h))
  obtain ⟨arr, harr⟩ := st_arr hts
  obtain ⟨de, hde1, hde2⟩ := st_dea hts hn hA
  obtain ⟨mi, hmi⟩ := st_mirror hn
  have key : ∀ (i : Nat) (x : String × Nat × String × List Int32), aStrs[i]? = some x → ∃ q v : Nat, aStr q v x A s s.heap := by
    intro i x h
    match i, h with
    | 0, h => cases h; exact st_k0 hts hn hA
    | 1, h => cases h; exact st_k1 hts hn hA
    | 2, h => cases h; exact st_k2 hts hn hA
    | 3, h => cases h; exact st_k3 hts hn hA
    | 4, h => cases h; exact st_k4 hts hn hA
    | 5, h => cases h; exact st_k5 hts hn hA
    | 6, h => cases h; exact st_k6 hts hn hA
    | 7, h => cases h; exact st_k7 hts hn hA
    | 8, h => cases h; exact st_k8 hts hn hA
    | 9, h => cases h; exact st_k9 hts hn hA
    | 10, h => cases h; exact st_k10 hts hn hA
    | 11, h => cases h; exact st_k11 hts hn hA
    | 12, h => cases h; exact st_k12 hts hn hA
    | 13, h => cases h; exact st_k13 hts hn hA
    | 14, h => cases h; exact st_k14 hts hn hA
    | 15, h => cases h; exact st_k15 hts hn hA
    | 16, h => cases h; exact st_k16 hts hn hA
    | 17, h => cases h; exact st_k17 hts hn hA
    | 18, h => cases h; exact st_k18 hts hn hA
    | 19, h => cases h; exact st_k19 hts hn hA
    | 20, h => cases h; exact st_k20 hts hn hA
    | 21, h => cases h; exact st_k21 hts hn hA
    | 22, h => cases h; exact st_k22 hts hn hA
    | 23, h => cases h; exact st_k23 hts hn hA
    | 24, h => cases h; exact st_k24 hts hn hA
    | 25, h => cases h; exact st_k25 hts hn hA
    | n + 26, h => simp [aStrs] at h
  have all : ∀ i : Nat, ∃ q v : Nat, ∀ x, aStrs[i]? = some x → aStr q v x A s s.heap := by
    intro i
    cases hq : aStrs[i]? with
    | none => exact ⟨0, 0, fun x h => by cases h⟩
    | some x =>
      obtain ⟨q, v, h⟩ := key i x hq
      exact ⟨q, v, fun x' h' => by cases h'; exact h⟩
  obtain ⟨qf, vf, hqv⟩ : ∃ qf vf : Nat → Nat, ∀ i x, aStrs[i]? = some x → aStr (qf i) (vf i) x A s s.heap := ⟨fun i => (all i).choose, fun i => (all i).choose_spec.choose, fun i x h => (all i).choose_spec.choose_spec x h⟩
  have hlt : ∀ (i : Nat) (x : String × Nat × String × List Int32), aStrs[i]? = some x → i < 26 := by
    intro i x h
    have := (List.getElem?_eq_some_iff.mp h).1
    simpa [aStrs] using this
  have h0 := hqv 0 _ rfl
  obtain ⟨ad, e0, e1, e2, e3⟩ : ∃ ad : Nat → Nat, ad 0 = de ∧ ad 200 = mi ∧ (∀ i, i < 26 → ad (1 + i) = qf i) ∧ ∀ i, i < 26 → ad (101 + i) = vf i := by
    refine ⟨fun n => if n = 0 then de else if n = 200 then mi else if n < 101 then qf (n - 1) else vf (n - 101), rfl, rfl, fun i hi => ?_, fun i hi => ?_⟩
    · show (if 1 + i = 0 then de else if 1 + i = 200 then mi else if 1 + i < 101 then qf (1 + i - 1) else vf (1 + i - 101)) = qf i
      rw [if_neg (by omega), if_neg (by omega), if_pos (by omega), show 1 + i - 1 = i by omega]
    · show (if 101 + i = 0 then de else if 101 + i = 200 then mi else if 101 + i < 101 then qf (101 + i - 1) else vf (101 + i - 101)) = vf i
      rw [if_neg (by omega), if_neg (by omega), if_neg (by omega), show 101 + i - 101 = i by omega]
  have e20 : ad 1 = qf 0 := e2 0 (by decide)
  refine ⟨(D, arr, ad), ⟨⟨hD, harr⟩, st_nw hts, st_fw hts, st_fd hts hn, st_pv hts, st_nc hn, ?_⟩, st_compact hts hn hA, st_stack hts hn hA, st_supp hts hn hA, st_sioobe hts hn hA, ⟨?_, ?_⟩, ⟨?_, ?_⟩, fun i x h => ?_⟩
  · show va_Mi _ (ad 200) s
    rw [e1]; exact hmi
  · show va_Z _ _ _ (.ref (ad 0)) A s s.heap
    rw [e0]; exact hde1
  · show va_T _ (ad 0) 0 _ A s s.heap
    rw [e0]; exact hde2
  · show va_OF _ _ _ _ (ad 1) A s s.heap
    rw [e20]; exact vk_OFof (args := args) (vkR_eval h0.1) (va_eqt (hn (.eq (.field (.string "MaltDrums$Reader" 55) "java/lang/String" "hash" "I") (.int 0)) (by decide +kernel))) hA
  · show va_OF _ _ _ _ (ad 1) A s s.heap
    rw [e20]; exact vk_OFof (args := args) (vkR_eval h0.1) (va_eqt (hn (.eq (.field (.string "MaltDrums$Reader" 55) "java/lang/String" "hashIsZero" "Z") (.int 1)) (by decide +kernel))) hA
  · show aStr (ad (1 + i)) (ad (101 + i)) x A s s.heap
    rw [e2 i (hlt i x h), e3 i (hlt i x h)]
    exact hqv i x h
/-- from the law's entry: what is left is wp_whole -/
theorem whole_of {p : Program} {e : Env} {s : State} {m : MethodId} {below : List Frame} {meth : Method} {c : Code} (l : Launch) (hflags : l.flags = flags0) {b L : Nat} {xs : Nat → Int32} (C0 : lw_At p s m meth c b L xs) (hw : ∀ G : aG, wp_whole G xs L) : W p l e room_1 s m #[Value.ref b] below meth c s.heap [] 0 0 (lw_Z below #[Value.ref b] s) (entryFrame m ([Value.ref b] : List Value).toArray 9) := by
  obtain ⟨h1, h2, h3, h4, h5, h6, h7, h8, h9, h10⟩ := C0
  have hn := flat_of_before _ h10
  have hA : ∀ a : Nat, a < s.heap.size → ¬ a_A (fun _ => none) s.heap.size a := by
    rintro a ha (z | z)
    · exact z rfl
    · omega
  obtain ⟨G, hK, hSC⟩ := st_all h6 hn hA
  exact law_all (G := G) (nm := meth.name) ⟨h1, h2, h4, h5, fun w hw => h6 w (lw_all_tbl hw), h9, h3, hK, fun q hq => Or.inr hq, hSC, rfl, hflags⟩ h7 h8 (hw G)
