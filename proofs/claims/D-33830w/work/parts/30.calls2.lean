set_option maxRecDepth 100000
/-! BASE 3: calls of nest mates and through interfaces; further rows -/
section ACalls3
variable {G : aG} {p : Program} {l : Launch} {e : Env} {R : Room} {s : State} {m : MethodId} {args : Array Value} {below : List Frame} {meth : Method} {c : Code} {A : Nat → Prop} {y : MethodName} {cc : ByteArray} {nL : Nat} {rt : Option FieldType} {Q : State → Prop} {V V1 : aWd} {pc : Nat} {L : List (Option Value)} {st : List Value}
theorem a_iushr (C : Cx G p l s m args meth c A y cc nL rt) {x z : Int32} (d : decode cc pc = .ok (.iushr, 1)) (k : AW G p l e R s m args below meth c A nL Q V (pc + 1) L (.int (x.toUInt32 >>> (z.toUInt32 &&& Int32.toUInt32 31)).toInt32 :: st)) : AW G p l e R s m args below meth c A nL Q V pc L (.int z :: .int x :: st) :=
  fun h n u hV H locs ls hz hu hR hA hS hl => lv_iushr C.1 C.2.1 d rfl (k h n u hV H locs ls hz hu hR hA hS hl)
theorem a_run5 {H : Heap} {locs : List Loc} {ls : Array Slot} {cells slots mc ms : Nat} {st0 : List Value} {a1 : Array Value} {A1 : Nat → Prop} {post : Option Value → aWd} (hr : va_Run5 p l e R s m args below meth c H locs cells slots mc ms (F0 m pc ls st0) st (a_Qc G post A1 a1) A1) (hS : va_S A s.heap H locs) (hl : lv_has ls nL (a_L 0 L)) (hA1 : ∀ q, A1 q → A q)
    (kk : ∀ r h1 n1 u1, post r h1 n1 u1 → AW G p l e R s m args below meth c A nL Q (aIs h1 n1 u1) (pc + 5) L (r.toList ++ st)) : W p l e R s m args below meth c H locs cells slots Q (F0 m pc ls st0) := by
  intro T hT X
  obtain ⟨v, st₀, t, T', Lx, h0, X', hL, e1, e2, ⟨⟨r, h1, hv, hp, hR1, hAA⟩, hz, hk⟩, stp⟩ := hr T hT X
  cases hv
  rw [h0] at hz hk
  obtain ⟨t2, a2, b2⟩ := W_tight (cells := cells + mc) (slots := slots + ms) (kk v h1 T'.heap.size (slT T'.heap) (by rw [e1]; exact hp) h1 _ _ ⟨rfl, rfl, rfl⟩ T'.heap (locs ++ Lx) ls rfl rfl (by rw [e1]; exact hR1) (fun a f hf => hA1 _ (hAA a f hf))
    ⟨Nat.le_trans hS.1 (by rw [e1]; exact hz), fun q h1 h2 => by rw [e1, hk q (Nat.lt_of_lt_of_le h1 hS.1) (fun z => h2 (hA1 q z))]; exact hS.2.1 q h1 h2, fun q hq => by
      rcases List.mem_append.mp hq with h | h
      · exact hS.2.2 q h
      · exact hA1 _ (hL q h)⟩ hl) T' rfl X'
  exact ⟨t2, stp t2 a2, b2⟩
theorem a_callSN (C : Cx G p l s m args meth c A y cc nL rt) {y1 : MethodName} {bytes : ByteArray} {maxL k k1 mc ms MC MS index : Nat} {ret : Option FieldType} {vs : List Value} {host : String} {X : Type} (rv : X → Option Value) (Pq : X → Prop) (V1 : X → aWd) (hk : k1 < k) (hm : maxL ≤ 29) (hM : ∀ h n u, V h n u → CT l y1 (ws_ y1 bytes maxL ret) k1 G vs h n u mc ms (fun r h1 n1 u1 => ∃ x, r = rv x ∧ Pq x ∧ V1 x h1 n1 u1)) (hlink : Cond.methodLinkNest y.cls index y1 host ∈ lw_tbl) (hstat : Cond.static y1 ∈ lw_all) (hini : Cond.initialized y1.cls ∈ lw_all) (hG : GoodIn lw_all (ws_ y1 bytes maxL ret)) (hd : aSig y1 vs.length) (hroom : ∀ h n u, V h n u → n + mc ≤ s.heap.size + MC ∧ u + ms ≤ slT s.heap + MS) (hst : (st.map fun v => v.category).sum ≤ 8) (d : decode cc pc = .ok (.invokestatic index, 3)) (kk : ∀ x, Pq x → AW G p l e (aRm k MC MS) s m args below meth c A nL Q (V1 x) (pc + 3) L ((rv x).toList ++ st)) : AW G p l e (aRm k MC MS) s m args below meth c A nL Q V pc L (vs.reverse ++ st) := by
  intro h n u hV H locs ls hz hu hR hA hS hl
  obtain ⟨r1, r2⟩ := hroom h n u hV
  have hS1 := hS.1
  refine W_sized fun w1 w2 w3 w4 => ?_
  have cw : va_CN (aRm k MC MS) s args y.cls index y1 host bytes maxL ret (ws_ y1 bytes maxL ret) (aRm k1 mc ms) mc ms vs.length ∧ (Cond.static y1).before args s = true ∧ True := ⟨va_cnB vs.length C.ts hG rfl rfl rfl (C.K.2.1 _ hlink rfl) (C.ts _ hini) ⟨hd.1, hd.2.1, hd.2.2⟩ ⟨by show k1 + 1 ≤ k; omega, by show 8 + (maxL + 11) + 48 * k1 ≤ 48 * k; omega⟩, C.ts _ hstat, trivial⟩
  refine a_run (L := L) (post := fun r h1 n1 u1 => ∃ x, r = rv x ∧ Pq x ∧ V1 x h1 n1 u1) (va_runSN ⟨C.exec, C.2.1, C.maxL, C.own, C.ts⟩ (hM h n u hV C.fl) cw ⟨a_Pc.blind, a_start C hz hu hR hA hS⟩ rfl rfl hl.1 rfl (lv_room hst) d ⟨by show n - s.heap.size + mc ≤ MC; omega, by show u - slT s.heap + ms ≤ MS; omega⟩) hS hl (a_sub C hz hA hS) ?_
  rintro r h1 n1 u1 ⟨x, rfl, g1, g2⟩
  exact a_world (fun h n u q => by obtain ⟨rfl, rfl, rfl⟩ := q; exact g2) (kk x g1)
theorem a_callIN (C : Cx G p l s m args meth c A y cc nL rt) {y1 : MethodName} {bytes : ByteArray} {maxL k k1 mc ms MC MS index : Nat} {ret : Option FieldType} {vs : List Value} {host : String} {b : Nat} {X : Type} (rv : X → Option Value) (Pq : X → Prop) (V1 : X → aWd) (hk : k1 < k) (hm : maxL ≤ 29) (hM : ∀ h n u, V h n u → CT l y1 (ws_ y1 bytes maxL none) k1 G (.ref b :: vs) h n u mc ms (fun r h1 n1 u1 => ∃ x, r = rv x ∧ Pq x ∧ V1 x h1 n1 u1)) (hlink : Cond.methodLinkNest y.cls index y1 host ∈ lw_tbl) (hinst : Cond.instanceMethod y1 ∈ lw_all) (hini : Cond.initialized y1.cls ∈ lw_all) (hy1 : y1.name = "<init>") (hG : GoodIn lw_all (ws_ y1 bytes maxL none)) (hd : aSig y1 vs.length) (hroom : ∀ h n u, V h n u → n + mc ≤ s.heap.size + MC ∧ u + ms ≤ slT s.heap + MS) (hst : (st.map fun v => v.category).sum ≤ 8) (d : decode cc pc = .ok (.invokespecial index, 3)) (kk : ∀ x, Pq x → AW G p l e (aRm k MC MS) s m args below meth c A nL Q (V1 x) (pc + 3) L ((rv x).toList ++ st)) : AW G p l e (aRm k MC MS) s m args below meth c A nL Q V pc L (vs.reverse ++ .ref b :: st) := by
  intro h n u hV H locs ls hz hu hR hA hS hl
  obtain ⟨r1, r2⟩ := hroom h n u hV
  have hS1 := hS.1
  refine W_sized fun w1 w2 w3 w4 => ?_
  have cw : va_CN (aRm k MC MS) s args y.cls index y1 host bytes maxL none (ws_ y1 bytes maxL none) (aRm k1 mc ms) mc ms vs.length ∧ y1.name = "<init>" ∧ (Cond.instanceMethod y1).before args s = true := ⟨va_cnB vs.length C.ts hG rfl rfl rfl (C.K.2.1 _ hlink rfl) (C.ts _ hini) ⟨hd.1, hd.2.1, hd.2.2⟩ ⟨by show k1 + 1 ≤ k; omega, by show 8 + (maxL + 11) + 48 * k1 ≤ 48 * k; omega⟩, hy1, C.ts _ hinst⟩
  refine a_run (L := L) (post := fun r h1 n1 u1 => ∃ x, r = rv x ∧ Pq x ∧ V1 x h1 n1 u1) (va_runIN ⟨C.exec, C.2.1, C.maxL, C.own, C.ts⟩ (hM h n u hV C.fl) cw ⟨a_Pc.blind, a_start C hz hu hR hA hS⟩ rfl rfl hl.1 rfl (lv_room hst) d ⟨by show n - s.heap.size + mc ≤ MC; omega, by show u - slT s.heap + ms ≤ MS; omega⟩) hS hl (a_sub C hz hA hS) ?_
  rintro r h1 n1 u1 ⟨x, rfl, g1, g2⟩
  exact a_world (fun h n u q => by obtain ⟨rfl, rfl, rfl⟩ := q; exact g2) (kk x g1)
theorem a_callF (C : Cx G p l s m args meth c A y cc nL rt) {y1 : MethodName} {bytes : ByteArray} {maxL k k1 mc ms MC MS index : Nat} {ret : Option FieldType} {vs : List Value} {b ci count : Nat} {r0 : vw_C} {x1 : MethodName} {X : Type} (rv : X → Option Value) (Pq : X → Prop) (V1 : X → aWd) (hk : k1 < k) (hm : maxL ≤ 29) (hM : ∀ h n u, V h n u → CT l y1 (ws_ y1 bytes maxL ret) k1 G (.ref b :: vs) h n u mc ms (fun r h1 n1 u1 => ∃ x, r = rv x ∧ Pq x ∧ V1 x h1 n1 u1)) (hc : aCl[ci]? = some r0) (hfw : (r0.1, x1, y1) ∈ fwL) (hb : ∀ h n u, V h n u → ∃ fs, h b = some (.inr (ci, fs))) (hG : GoodIn lw_all (va_wsF y.cls index r0.1 x1 y1 (ws_ y1 bytes maxL ret))) (hd : aSig x1 vs.length) (hroom : ∀ h n u, V h n u → n + mc ≤ s.heap.size + MC ∧ u + ms ≤ slT s.heap + MS) (hst : (st.map fun v => v.category).sum ≤ 8) (d : decode cc pc = .ok (.invokeinterface index count, 5)) (kk : ∀ x, Pq x → AW G p l e (aRm k MC MS) s m args below meth c A nL Q (V1 x) (pc + 5) L ((rv x).toList ++ st)) : AW G p l e (aRm k MC MS) s m args below meth c A nL Q V pc L (vs.reverse ++ .ref b :: st) := by
  intro h n u hV H locs ls hz hu hR hA hS hl
  obtain ⟨r1, r2⟩ := hroom h n u hV
  have hS1 := hS.1
  refine W_sized fun w1 w2 w3 w4 => ?_
  have cw : va_CI (aRm k MC MS) s args y.cls r0.1 index x1 y1 bytes maxL ret (ws_ y1 bytes maxL ret) (aRm k1 mc ms) mc ms vs.length := va_cwF vs.length C.ts hG rfl rfl rfl (C.K.2.2.1 _ hfw) ⟨hd.1, hd.2.1, hd.2.2⟩ ⟨by show k1 + 1 ≤ k; omega, by show 8 + (maxL + 11) + 48 * k1 ≤ 48 * k; omega⟩
  refine a_run5 (L := L) (post := fun r h1 n1 u1 => ∃ x, r = rv x ∧ Pq x ∧ V1 x h1 n1 u1) (va_runF (C.K.1.1 ci _ hc).2 ⟨C.exec, C.2.1, C.maxL, C.own, C.ts⟩ (hM h n u hV C.fl) cw ⟨a_Pc.blind, (by obtain ⟨fs, hb1⟩ := hb h n u hV; exact a_recv C.K hR hb1 hc rfl), a_start C hz hu hR hA hS⟩ rfl rfl hl.1 rfl (lv_room hst) d ⟨by show n - s.heap.size + mc ≤ MC; omega, by show u - slT s.heap + ms ≤ MS; omega⟩) hS hl (a_sub C hz hA hS) ?_
  rintro r h1 n1 u1 ⟨x, rfl, g1, g2⟩
  exact a_world (fun h n u q => by obtain ⟨rfl, rfl, rfl⟩ := q; exact g2) (kk x g1)
theorem a_callFD (C : Cx G p l s m args meth c A y cc nL rt) {y1 : MethodName} {bytes : ByteArray} {maxL k k1 mc ms MC MS index : Nat} {ret : Option FieldType} {vs : List Value} {b ci count : Nat} {r0 : vw_C} {X : Type} (rv : X → Option Value) (Pq : X → Prop) (V1 : X → aWd) (hk : k1 < k) (hm : maxL ≤ 29) (hM : ∀ h n u, V h n u → CT l y1 (ws_ y1 bytes maxL ret) k1 G (.ref b :: vs) h n u mc ms (fun r h1 n1 u1 => ∃ x, r = rv x ∧ Pq x ∧ V1 x h1 n1 u1)) (hc : aCl[ci]? = some r0) (hfd : (r0.1, y1) ∈ fdL) (hb : ∀ h n u, V h n u → ∃ fs, h b = some (.inr (ci, fs))) (hlink : Cond.methodLink y.cls index y1 ∈ lw_all) (hinst : Cond.instanceMethod y1 ∈ lw_all) (hini : Cond.initialized y1.cls ∈ lw_all) (hG : GoodIn lw_all (ws_ y1 bytes maxL ret)) (hd : aSig y1 vs.length) (hroom : ∀ h n u, V h n u → n + mc ≤ s.heap.size + MC ∧ u + ms ≤ slT s.heap + MS) (hst : (st.map fun v => v.category).sum ≤ 8) (d : decode cc pc = .ok (.invokeinterface index count, 5)) (kk : ∀ x, Pq x → AW G p l e (aRm k MC MS) s m args below meth c A nL Q (V1 x) (pc + 5) L ((rv x).toList ++ st)) : AW G p l e (aRm k MC MS) s m args below meth c A nL Q V pc L (vs.reverse ++ .ref b :: st) := by
  intro h n u hV H locs ls hz hu hR hA hS hl
  obtain ⟨r1, r2⟩ := hroom h n u hV
  have hS1 := hS.1
  refine W_sized fun w1 w2 w3 w4 => ?_
  have hrun : va_Run5 p l e (aRm k MC MS) s m args below meth c H locs (n - s.heap.size) (u - slT s.heap) mc ms (F0 m pc ls (vs.reverse ++ .ref b :: st)) st (a_Qc G (fun r h1 n1 u1 => ∃ x, r = rv x ∧ Pq x ∧ V1 x h1 n1 u1) (a_A h n) (Value.ref b :: vs).toArray) (a_A h n) := by
    have hcw : Cond.code y1 bytes maxL ret ∈ ws_ y1 bytes maxL ret := List.mem_cons_self
    have hK : Back l (aRm k MC MS) p e below s args y1 5 8 (PreOf (aRm k MC MS) mc ms (a_Pc G (.ref b :: vs) h n u)) (PostOf (a_Qc G (fun r h1 n1 u1 => ∃ x, r = rv x ∧ Pq x ∧ V1 x h1 n1 u1) (a_A h n)) mc ms (a_A h n)) := back_of (bytes := bytes) (maxL := maxL) (ret := ret) (hM h n u hV C.fl) a_Pc.blind rfl rfl (by show k1 + 1 ≤ k; omega) (by show 8 + (maxL + 11) + 48 * k1 ≤ 48 * k; omega) (pay_in C.ts hG) hcw (fun a' U hW => word_at hW (Or.inl (by first | rfl | simp [Cond.onTables, Cond.keeps, Cond.steady])) (C.ts _ hini))
    obtain ⟨fs, hb1⟩ := hb h n u hV
    obtain ⟨cellB, hcB, hoB, hclB⟩ := a_recv (C0 := r0.1) C.K hR hb1 hc rfl
    obtain ⟨hfc, kB, hkB, -⟩ := (C.K.1.1 ci _ hc).2
    have hcls : cellB.cls = G.1.1 ci := (Option.some.inj (hfc.symm.trans hclB)).symm
    obtain ⟨f1, f2, f3, f4, f5⟩ := C.K.2.2.2.1 _ hfd
    intro T hT X
    obtain ⟨v, vm₁, ⟨U', l2, c2, s2⟩, hW₁, X', ⟨g', mk, t, Lx, e1, e2, hq, h1, hL, h2, h3⟩, stp⟩ := Stand.interfaceBackD X C.exec (C := r0.1) (xi := y1) (y := y1) C.own (C.ts _ hlink) (va_any rfl f1) (va_any rfl f2) (show (Cond.landsInDefault r0.1 y1 y1).before args s = true from f4) (C.ts _ hinst) (va_any rfl f3) (va_any rfl f5) ⟨hd.1, hd.2.1⟩ hK hfc hkB ⟨cellB, by rw [hT]; exact hcB, hcls, hoB⟩ (g := F0 m pc ls (vs.reverse ++ .ref b :: st)) rfl (hl.1.trans C.maxL.symm) (Steps.refl _) (argsL := vs) (rest := st) (fun sig hsig => by have h2 := hd.2.2; rw [hsig] at h2; exact (Option.some.inj h2).symm) rfl (lv_room hst) (by rw [C.2.1]; exact d) (fun vm₁ hW₁ => ⟨by show n - s.heap.size + mc ≤ MC; omega, by show u - slT s.heap + ms ≤ MS; omega, a_start (vs := .ref b :: vs) C hz hu hR hA hS (T.setVm vm₁) hT hW₁⟩)
    dsimp only [Pt.U, Pt.locs, Pt.cells, Pt.slots] at X' e1 e2 h1 h2 h3 stp
    subst h1; subst h2; subst h3
    exact ⟨v, (T.setVm vm₁).calling g' mk (Value.ref b :: vs).toArray, t, U', Lx, hT, X', hL, e1, e2, hq, fun tg a1 => stp.trans a1⟩
  refine a_run5 (L := L) hrun hS hl (a_sub C hz hA hS) ?_
  rintro r h1 n1 u1 ⟨x, rfl, g1, g2⟩
  exact a_world (fun h n u q => by obtain ⟨rfl, rfl, rfl⟩ := q; exact g2) (kk x g1)
theorem lw_F {own : String} {idx : Nat} {C : String} {x y : MethodName} {b : ByteArray} {L : Nat} {r : Option FieldType} (h1 : Cond.methodLink own idx x ∈ lw_all) (h2 : Cond.selects C x y ∈ lw_all) (h3 : Cond.instanceMethod y ∈ lw_all) (h4 : Cond.initialized y.cls ∈ lw_all) (h5 : Cond.code y b L r ∈ lw_all) : GoodIn lw_all (va_wsF own idx C x y (ws_ y b L r)) := by
  refine lw_app ?_ (lw_meth h5)
  intro w hw
  simp only [List.mem_cons, List.not_mem_nil, or_false] at hw
  rcases hw with e | e | e | e
  · rw [e]; exact h1
  · rw [e]; exact h2
  · rw [e]; exact h3
  · rw [e]; exact h4
end ACalls3
