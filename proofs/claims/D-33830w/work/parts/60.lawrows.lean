set_option maxRecDepth 100000
/-! THE LAW's WORLD: the component's wide world, beside it the model at mo -/
def lE (mo : Nat) : Nat → Prop := fun q => mo ≤ q ∧ q < mo + 6
def LW (n0 u0 K mo : Nat) (σ : OS) (μ : MS) : aWd := fun h n u => OV h (lE mo) σ ∧ MV h mo μ ∧ mo + 6 ≤ n ∧ n0 ≤ n ∧ u0 ≤ u ∧ n + σ.2.2.1 ≤ n0 + K ∧ u + 10 * σ.2.2.1 ≤ u0 + 10 * K
theorem MV.keep {h h1 : AH} {a : Nat} {μ : MS} (hV : MV h a μ) (hk : ∀ q, a ≤ q → q < a + 6 → h1 q = h q) : MV h1 a μ := by
  obtain ⟨e1, e2, e3⟩ := hV
  exact ⟨(hk _ (by omega) (by omega)).trans e1, fun b hb => (hk _ (by omega) (by omega)).trans (e2 b hb), e3⟩
theorem MV.ne5 {h : AH} {a q : Nat} {μ : MS} {f : List Value} (hV : MV h a μ) (hq : h q = some (.inr (5, f))) : q < a ∨ a + 6 ≤ q := by
  obtain ⟨e1, e2, e3⟩ := hV
  by_cases z : q < a ∨ a + 6 ≤ q
  · exact z
  · exfalso
    by_cases z0 : q = a
    · subst z0
      rw [e1] at hq
      have hq := Option.some.inj hq
      unfold mObj at hq
      cases hq
    · have := e2 (q - (a + 1)) (by omega)
      rw [show a + 1 + (q - (a + 1)) = q by omega] at this
      rw [this] at hq
      cases hq
theorem OV.keepE {h h1 : AH} {mo : Nat} {σ : OS} {μ : MS} (hV : OV h (lE mo) σ) (hM : MV h mo μ) (hk : ∀ q, q < mo ∨ mo + 6 ≤ q → h1 q = h q) : OV h1 (lE mo) σ := by
  obtain ⟨a1, a2, a3, a4, a5, a6, a7⟩ := hV
  have h5 : ∀ (q : Nat) (f : List Value), h q = some (.inr (5, f)) → h1 q = some (.inr (5, f)) := fun q f hq => (hk q (hM.ne5 hq)).trans hq
  refine ⟨fun q e hq => ?_, fun a w hw => ?_, a3, a4, a5, a6, fun b L hb => BK.mono h5 _ _ (a7 b L hb)⟩
  · have := a5 q e hq
    exact (hk q (by unfold lE at this; omega)).trans (a1 q e hq)
  · refine (a2 a w hw).keep (fun q h1 h2 => hk q ?_) h5
    by_cases z : q < mo ∨ mo + 6 ≤ q
    · exact z
    · have := a3 a w hw q (Or.inr ⟨by omega, by omega⟩)
      omega
theorem LW.base {n0 u0 K mo κ1 : Nat} {σ : OS} {μ : MS} {h : AH} {n u : Nat} (hL : LW n0 u0 K mo σ μ h n u) : OB h n (lE mo) (oXs σ κ1) := by
  obtain ⟨a1, a2, a3, -⟩ := hL
  exact ⟨a1.same rfl rfl rfl, fun q hq => by unfold lE at hq; omega, fun z => absurd rfl z⟩
theorem LW.comp {n0 u0 K mo κ1 : Nat} {σ σ1 : OS} {μ : MS} {h h1 : AH} {n u n1 u1 : Nat} (hL : LW n0 u0 K mo σ μ h n u) (hκ : κ1 ≤ σ.2.2.1) (hO : OW h n u (lE mo) κ1 σ1 h1 n1 u1) : LW n0 u0 K mo (oXs σ1 (σ.2.2.1 - κ1)) μ h1 n1 u1 := by
  obtain ⟨a1, a2, a3, a4, a5, a6, a7⟩ := hL
  obtain ⟨b1, b2, b3, b4, b5, b6, b7, b8⟩ := hO
  refine ⟨b1.same rfl rfl rfl, a2.keep fun q h1 h2 => b6 q ⟨h1, h2⟩, by omega, by omega, by omega, ?_, ?_⟩
  · show n1 + (σ.2.2.1 - κ1) ≤ n0 + K
    omega
  · show u1 + 10 * (σ.2.2.1 - κ1) ≤ u0 + 10 * K
    omega
theorem LW.model {n0 u0 K mo : Nat} {σ : OS} {μ μ1 : MS} {h h1 : AH} {n u n1 u1 : Nat} (hL : LW n0 u0 K mo σ μ h n u) (hM : MW h n u mo μ1 h1 n1 u1) : LW n0 u0 K mo σ μ1 h1 n1 u1 := by
  obtain ⟨a1, a2, a3, a4, a5, a6, a7⟩ := hL
  obtain ⟨rfl, rfl, b1, b2⟩ := hM
  exact ⟨a1.keepE a2 b2, b1, a3, a4, a5, a6, a7⟩
section LRows
variable {G : aG} {p : Program} {l : Launch} {e : Env} {R : Room} {s : State} {m : MethodId} {args : Array Value} {below : List Frame} {meth : Method} {c : Code} {A : Nat → Prop} {y : MethodName} {cc : ByteArray} {nL : Nat} {rt : Option FieldType} {Q : State → Prop} {pc : Nat} {L : List (Option Value)} {st : List Value} {n0 u0 K mo : Nat} {σ : OS} {μ : MS}
theorem l_room (hs : s.heap.size = n0 ∧ slT s.heap = u0) {k : Nat} (hk : k ≤ σ.2.2.1) : ∀ h n u, LW n0 u0 K mo σ μ h n u → n + k ≤ s.heap.size + K ∧ u + 10 * k ≤ slT s.heap + 10 * K := by
  intro h n u hV
  obtain ⟨-, -, -, a1, a2, a3, a4⟩ := hV
  obtain ⟨g1, g2⟩ := hs
  exact ⟨by omega, by omega⟩
theorem l_callSW (C : Cx G p l s m args meth c A y cc nL rt) (hs : s.heap.size = n0 ∧ slT s.heap = u0) {y1 : MethodName} {bytes : ByteArray} {maxL k k1 index : Nat} {ret : Option FieldType} (vs : List Value) {hh : List (Nat × Nat × Nat × Nat)} (κ1 : Nat) (hκ : κ1 ≤ σ.2.2.1) {Q0 : Int32 → OS → Prop} (hM : ∀ h n u, OB h n (lE mo) (oXs σ κ1) → CTX l y1 (wsW_ y1 bytes maxL ret hh) k1 G vs h n u κ1 (10 * κ1) (o_pi Q0 h n u (lE mo) κ1) (o_px (fun _ _ => False) h (lE mo))) (hk : k1 < k) (hm : maxL ≤ 29) (hG : GoodIn lw_all (va_wsS y.cls index y1 (wsW_ y1 bytes maxL ret hh))) (hd : aSig y1 vs.length) (hst : (st.map fun v => v.category).sum ≤ 8) (d : decode cc pc = .ok (.invokestatic index, 3)) (kk : ∀ v σ1, Q0 v σ1 → AW G p l e (aRm k K (10 * K)) s m args below meth c A nL Q (LW n0 u0 K mo (oXs σ1 (σ.2.2.1 - κ1)) μ) (pc + 3) L (.int v :: st)) : AW G p l e (aRm k K (10 * K)) s m args below meth c A nL Q (LW n0 u0 K mo σ μ) pc L (vs.reverse ++ st) := by
  intro h n u hV H locs ls hz hu hR hA hS hl
  obtain ⟨r1, r2⟩ := l_room hs hκ h n u hV
  have hS1 := hS.1
  refine W_sized fun w1 w2 w3 w4 => ?_
  have cw : vx_CSW (aRm k K (10 * K)) s args y.cls index y1 bytes maxL ret hh (wsW_ y1 bytes maxL ret hh) (aRm k1 κ1 (10 * κ1)) κ1 (10 * κ1) vs.length := vx_cwSW vs.length C.ts hG rfl rfl rfl ⟨hd.1, hd.2.1, hd.2.2⟩ ⟨by show k1 + 1 ≤ k; omega, by show 8 + (maxL + 11) + 48 * k1 ≤ 48 * k; omega⟩
  refine a_runX (L := L) (n := n) (u := u) (post := o_pi Q0 h n u (lE mo) κ1) (px := o_px (fun _ _ => False) h (lE mo)) (by omega) (by omega) hz hu (vx_runSX ⟨C.exec, C.2.1, C.maxL, C.own, C.ts⟩ (hM h n u hV.base C.fl) cw ⟨a_Pc.blind, a_start C hz hu hR hA hS⟩ rfl rfl hl.1 rfl (lv_room hst) d ⟨by show n - s.heap.size + κ1 ≤ K; omega, by show u - slT s.heap + 10 * κ1 ≤ 10 * K; omega⟩) hS hl (a_sub C hz hA hS) ?_ ?_
  · rintro r h1 n1 u1 ⟨x, rfl, g1, g2⟩
    exact a_world (fun h n u q => by obtain ⟨rfl, rfl, rfl⟩ := q; exact hV.comp hκ g2) (kk x.1 x.2 g1)
  · rintro E9 h1 n1 u1 ⟨k9, σ1, rfl, hX, -⟩
    exact hX.elim
theorem l_callVW (C : Cx G p l s m args meth c A y cc nL rt) (hs : s.heap.size = n0 ∧ slT s.heap = u0) {y1 : MethodName} {bytes : ByteArray} {maxL k k1 index : Nat} {ret : Option FieldType} (vs : List Value) {b ci : Nat} {r0 : vw_C} {hh : List (Nat × Nat × Nat × Nat)} (κ1 : Nat) (hκ : κ1 ≤ σ.2.2.1) {Q0 : Int32 → OS → Prop} (hM : ∀ h n u, OB h n (lE mo) (oXs σ κ1) → CTX l y1 (wsW_ y1 bytes maxL ret hh) k1 G (.ref b :: vs) h n u κ1 (10 * κ1) (o_pi Q0 h n u (lE mo) κ1) (o_px (fun _ _ => False) h (lE mo))) (hk : k1 < k) (hm : maxL ≤ 29) (hc : aCl[ci]? = some r0) (hb : oC σ b ci) (hG : GoodIn lw_all (wsV y.cls index y1.cls y1 (wsW_ y1 bytes maxL ret hh))) (hcn : r0.1 = y1.cls) (hd : aSig y1 vs.length) (hst : (st.map fun v => v.category).sum ≤ 8) (d : decode cc pc = .ok (.invokevirtual index, 3)) (kk : ∀ v σ1, Q0 v σ1 → AW G p l e (aRm k K (10 * K)) s m args below meth c A nL Q (LW n0 u0 K mo (oXs σ1 (σ.2.2.1 - κ1)) μ) (pc + 3) L (.int v :: st)) : AW G p l e (aRm k K (10 * K)) s m args below meth c A nL Q (LW n0 u0 K mo σ μ) pc L (vs.reverse ++ .ref b :: st) := by
  intro h n u hV H locs ls hz hu hR hA hS hl
  obtain ⟨r1, r2⟩ := l_room hs hκ h n u hV
  have hS1 := hS.1
  refine W_sized fun w1 w2 w3 w4 => ?_
  have cw : vx_CVW (aRm k K (10 * K)) s args y.cls y1.cls index y1 bytes maxL ret hh (wsW_ y1 bytes maxL ret hh) (aRm k1 κ1 (10 * κ1)) κ1 (10 * κ1) vs.length := vx_cwVW vs.length C.ts hG rfl rfl rfl ⟨rfl, hd.1, hd.2.1, hd.2.2⟩ ⟨by show k1 + 1 ≤ k; omega, by show 8 + (maxL + 11) + 48 * k1 ≤ 48 * k; omega⟩
  refine a_runX (L := L) (n := n) (u := u) (post := o_pi Q0 h n u (lE mo) κ1) (px := o_px (fun _ _ => False) h (lE mo)) (by omega) (by omega) hz hu (vx_runVX ⟨C.exec, C.2.1, C.maxL, C.own, C.ts⟩ (hM h n u hV.base C.fl) cw ⟨a_Pc.blind, (by obtain ⟨fs, hb1⟩ := hb; exact a_recv C.K hR (hV.1.1 _ _ hb1) hc hcn), a_start C hz hu hR hA hS⟩ rfl rfl hl.1 rfl (lv_room hst) d ⟨by show n - s.heap.size + κ1 ≤ K; omega, by show u - slT s.heap + 10 * κ1 ≤ 10 * K; omega⟩) hS hl (a_sub C hz hA hS) ?_ ?_
  · rintro r h1 n1 u1 ⟨x, rfl, g1, g2⟩
    exact a_world (fun h n u q => by obtain ⟨rfl, rfl, rfl⟩ := q; exact hV.comp hκ g2) (kk x.1 x.2 g1)
  · rintro E9 h1 n1 u1 ⟨k9, σ1, rfl, hX, -⟩
    exact hX.elim
theorem l_callVi (C : Cx G p l s m args meth c A y cc nL rt) (hs : s.heap.size = n0 ∧ slT s.heap = u0) {y1 : MethodName} {bytes : ByteArray} {maxL k k1 index : Nat} {ret : Option FieldType} (vs : List Value) {b ci : Nat} {r0 : vw_C} (κ1 : Nat) (hκ : κ1 ≤ σ.2.2.1) {Q0 : Int32 → OS → Prop} (hM : ∀ h n u, OB h n (lE mo) (oXs σ κ1) → CT l y1 (ws_ y1 bytes maxL ret) k1 G (.ref b :: vs) h n u κ1 (10 * κ1) (o_pi Q0 h n u (lE mo) κ1)) (hk : k1 < k) (hm : maxL ≤ 29) (hc : aCl[ci]? = some r0) (hb : oC σ b ci) (hini : Cond.initialized y1.cls ∈ lw_all) (hlink : Cond.methodLink y.cls index y1 ∈ lw_all) (hinst : Cond.instanceMethod y1 ∈ lw_all) (hsel : Cond.selects r0.1 y1 y1 ∈ lw_all) (hG : GoodIn lw_all (ws_ y1 bytes maxL ret)) (hd : aSig y1 vs.length) (hst : (st.map fun v => v.category).sum ≤ 8) (d : decode cc pc = .ok (.invokevirtual index, 3)) (kk : ∀ v σ1, Q0 v σ1 → AW G p l e (aRm k K (10 * K)) s m args below meth c A nL Q (LW n0 u0 K mo (oXs σ1 (σ.2.2.1 - κ1)) μ) (pc + 3) L (.int v :: st)) : AW G p l e (aRm k K (10 * K)) s m args below meth c A nL Q (LW n0 u0 K mo σ μ) pc L (vs.reverse ++ .ref b :: st) :=
  a_callVC C (X := Int32 × OS) (fun x => some (.int x.1)) (fun x => Q0 x.1 x.2) (fun x => LW n0 u0 K mo (oXs x.2 (σ.2.2.1 - κ1)) μ) hk hm (fun h n u hV => (hM h n u hV.base).post fun r h1 n1 u1 q => by obtain ⟨x, e1, e2, e3⟩ := q; exact ⟨x, e1, e2, hV.comp hκ e3⟩) hc (fun h n u hV => by obtain ⟨fs, h9⟩ := hb; exact ⟨fs, hV.1.1 _ _ h9⟩) hini hlink hinst hsel hG hd (l_room hs hκ) hst d (fun x q => kk x.1 x.2 q)
theorem l_callMi (C : Cx G p l s m args meth c A y cc nL rt) (hs : s.heap.size = n0 ∧ slT s.heap = u0) {y1 : MethodName} {bytes : ByteArray} {maxL k k1 index : Nat} {ret : Option FieldType} (vs : List Value) {Q0 : Int32 → MS → Prop} (hM : ∀ h n u, MV h mo μ → CT l y1 (ws_ y1 bytes maxL ret) k1 G (.ref mo :: vs) h n u 0 0 (m_pi Q0 h n u mo)) (hk : k1 < k) (hm : maxL ≤ 29) (hcm : RX6 = y1.cls) (hini : Cond.initialized y1.cls ∈ lw_all) (hlink : Cond.methodLink y.cls index y1 ∈ lw_all) (hinst : Cond.instanceMethod y1 ∈ lw_all) (hsel : Cond.selects RX6 y1 y1 ∈ lw_all) (hG : GoodIn lw_all (ws_ y1 bytes maxL ret)) (hd : aSig y1 vs.length) (hst : (st.map fun v => v.category).sum ≤ 8) (d : decode cc pc = .ok (.invokevirtual index, 3)) (kk : ∀ v μ1, Q0 v μ1 → AW G p l e (aRm k K (10 * K)) s m args below meth c A nL Q (LW n0 u0 K mo σ μ1) (pc + 3) L (.int v :: st)) : AW G p l e (aRm k K (10 * K)) s m args below meth c A nL Q (LW n0 u0 K mo σ μ) pc L (vs.reverse ++ .ref mo :: st) :=
  a_callVC C (ci := 4) (r0 := (RX6, TX6, 9)) (X := Int32 × MS) (fun x => some (.int x.1)) (fun x => Q0 x.1 x.2) (fun x => LW n0 u0 K mo σ x.2) hk hm (fun h n u hV => (hM h n u hV.2.1).post fun r h1 n1 u1 q => by obtain ⟨x, e1, e2, e3⟩ := q; exact ⟨x, e1, e2, hV.model e3⟩) rfl (fun h n u hV => ⟨_, hV.2.1.1⟩) hini hlink hinst hsel hG hd (fun h n u hV => l_room hs (k := 0) (Nat.zero_le _) h n u hV) hst d (fun x q => kk x.1 x.2 q)
theorem l_callVd (C : Cx G p l s m args meth c A y cc nL rt) (hs : s.heap.size = n0 ∧ slT s.heap = u0) {y1 : MethodName} {bytes : ByteArray} {maxL k k1 index : Nat} {ret : Option FieldType} (vs : List Value) {b ci : Nat} {r0 : vw_C} (κ1 : Nat) (hκ : κ1 ≤ σ.2.2.1) {Q0 : UInt64 → OS → Prop} (hM : ∀ h n u, OB h n (lE mo) (oXs σ κ1) → CT l y1 (ws_ y1 bytes maxL ret) k1 G (.ref b :: vs) h n u κ1 (10 * κ1) (o_pd Q0 h n u (lE mo) κ1)) (hk : k1 < k) (hm : maxL ≤ 29) (hc : aCl[ci]? = some r0) (hb : oC σ b ci) (hini : Cond.initialized y1.cls ∈ lw_all) (hlink : Cond.methodLink y.cls index y1 ∈ lw_all) (hinst : Cond.instanceMethod y1 ∈ lw_all) (hsel : Cond.selects r0.1 y1 y1 ∈ lw_all) (hG : GoodIn lw_all (ws_ y1 bytes maxL ret)) (hd : aSig y1 vs.length) (hst : (st.map fun v => v.category).sum ≤ 8) (d : decode cc pc = .ok (.invokevirtual index, 3)) (kk : ∀ v σ1, Q0 v σ1 → AW G p l e (aRm k K (10 * K)) s m args below meth c A nL Q (LW n0 u0 K mo (oXs σ1 (σ.2.2.1 - κ1)) μ) (pc + 3) L (.double v :: st)) : AW G p l e (aRm k K (10 * K)) s m args below meth c A nL Q (LW n0 u0 K mo σ μ) pc L (vs.reverse ++ .ref b :: st) :=
  a_callVC C (X := UInt64 × OS) (fun x => some (.double x.1)) (fun x => Q0 x.1 x.2) (fun x => LW n0 u0 K mo (oXs x.2 (σ.2.2.1 - κ1)) μ) hk hm (fun h n u hV => (hM h n u hV.base).post fun r h1 n1 u1 q => by obtain ⟨x, e1, e2, e3⟩ := q; exact ⟨x, e1, e2, hV.comp hκ e3⟩) hc (fun h n u hV => by obtain ⟨fs, h9⟩ := hb; exact ⟨fs, hV.1.1 _ _ h9⟩) hini hlink hinst hsel hG hd (l_room hs hκ) hst d (fun x q => kk x.1 x.2 q)
theorem l_callMd (C : Cx G p l s m args meth c A y cc nL rt) (hs : s.heap.size = n0 ∧ slT s.heap = u0) {y1 : MethodName} {bytes : ByteArray} {maxL k k1 index : Nat} {ret : Option FieldType} (vs : List Value) {Q0 : UInt64 → MS → Prop} (hM : ∀ h n u, MV h mo μ → CT l y1 (ws_ y1 bytes maxL ret) k1 G (.ref mo :: vs) h n u 0 0 (m_pd Q0 h n u mo)) (hk : k1 < k) (hm : maxL ≤ 29) (hcm : RX6 = y1.cls) (hini : Cond.initialized y1.cls ∈ lw_all) (hlink : Cond.methodLink y.cls index y1 ∈ lw_all) (hinst : Cond.instanceMethod y1 ∈ lw_all) (hsel : Cond.selects RX6 y1 y1 ∈ lw_all) (hG : GoodIn lw_all (ws_ y1 bytes maxL ret)) (hd : aSig y1 vs.length) (hst : (st.map fun v => v.category).sum ≤ 8) (d : decode cc pc = .ok (.invokevirtual index, 3)) (kk : ∀ v μ1, Q0 v μ1 → AW G p l e (aRm k K (10 * K)) s m args below meth c A nL Q (LW n0 u0 K mo σ μ1) (pc + 3) L (.double v :: st)) : AW G p l e (aRm k K (10 * K)) s m args below meth c A nL Q (LW n0 u0 K mo σ μ) pc L (vs.reverse ++ .ref mo :: st) :=
  a_callVC C (ci := 4) (r0 := (RX6, TX6, 9)) (X := UInt64 × MS) (fun x => some (.double x.1)) (fun x => Q0 x.1 x.2) (fun x => LW n0 u0 K mo σ x.2) hk hm (fun h n u hV => (hM h n u hV.2.1).post fun r h1 n1 u1 q => by obtain ⟨x, e1, e2, e3⟩ := q; exact ⟨x, e1, e2, hV.model e3⟩) rfl (fun h n u hV => ⟨_, hV.2.1.1⟩) hini hlink hinst hsel hG hd (fun h n u hV => l_room hs (k := 0) (Nat.zero_le _) h n u hV) hst d (fun x q => kk x.1 x.2 q)
theorem l_laload (C : Cx G p l s m args meth c A y cc nL rt) {k a n9 : Nat} {i : Int32} {f : Nat → Int64} (ha : σ.1 a = some (.inl (1, n9, .inr (.inl f)))) (hin : vp_in i n9) (d : decode cc pc = .ok (.laload, 1)) (kk : AW G p l e (aRm k K (10 * K)) s m args below meth c A nL Q (LW n0 u0 K mo σ μ) (pc + 1) L (.long (f i.toNatClampNeg) :: st)) : AW G p l e (aRm k K (10 * K)) s m args below meth c A nL Q (LW n0 u0 K mo σ μ) pc L (.int i :: .ref a :: st) :=
  a_lald C (fun h n u hV => hV.1.1 _ _ ha) hin d kk
/-- the script -/
theorem a_xlen (C : Cx G p l s m args meth c A y cc nL rt) {V : aWd} {b L9 : Nat} {xs : Nat → Int32} (hX : va_X b L9 xs s s.heap) (hbA : ¬ A b) (hb : b < s.heap.size) {v : Int32} (hv : Int32.ofNat L9 = v) (d : decode cc pc = .ok (.arraylength, 1)) (kk : AW G p l e R s m args below meth c A nL Q V (pc + 1) L (.int v :: st)) : AW G p l e R s m args below meth c A nL Q V pc L (.ref b :: st) := by
  have hT : va_T .int b L9 (fun j => .int (xs j)) A s s.heap := by
    obtain ⟨scr, g1, g2, g3, g4, g5⟩ := hX
    exact ⟨scr, g1, g2, g3, by omega, by rw [g4], g5, hbA⟩
  exact a_tlenK C hT hv d kk
theorem a_xald (C : Cx G p l s m args meth c A y cc nL rt) {V : aWd} {b L9 : Nat} {xs : Nat → Int32} (hX : va_X b L9 xs s s.heap) (hbA : ¬ A b) {i : Int32} (hin : vp_in i L9) (d : decode cc pc = .ok (.iaload, 1)) (kk : AW G p l e R s m args below meth c A nL Q V (pc + 1) L (.int (xs i.toNatClampNeg) :: st)) : AW G p l e R s m args below meth c A nL Q V pc L (.int i :: .ref b :: st) := by
  have hT : va_T .int b L9 (fun j => .int (xs j)) A s s.heap := by
    obtain ⟨scr, g1, g2, g3, g4, g5⟩ := hX
    exact ⟨scr, g1, g2, g3, by omega, by rw [g4], g5, hbA⟩
  intro h n u hV H locs ls hz hu hR hA hS hl
  exact va_ti C.exec C.2.1 hT hS hin (v := .int (xs i.toNatClampNeg)) rfl d (kk h n u hV H locs ls hz hu hR hA hS hl)
abbrev LWS : Type := OS × MS
theorem l_top {k : Nat} {σ' : OS} {μ' : MS} (kk : ∀ s2 : LWS, s2 = (σ', μ') → AW G p l e (aRm k K (10 * K)) s m args below meth c A nL Q (LW n0 u0 K mo s2.1 s2.2) pc L st) : AW G p l e (aRm k K (10 * K)) s m args below meth c A nL Q (LW n0 u0 K mo σ' μ') pc L st := kk (σ', μ') rfl
end LRows
abbrev yL (nm : String) : MethodName := ⟨"MaltDrumsLaw", nm, "([I)Z"⟩
theorem a_set2 {ls : Array Slot} {nL : Nat} {L : List (Option Value)} {i : Nat} {v : Value} (hc : ∀ (j : Nat) (x : Option Value), j + 1 = i → L[j]? = some x → a_c1 x = true) (h : lv_has ls nL ((i, v) :: (a_L 0 L).filter (fun q => !(q.1 == i) && (!(q.1 == i + 1) && !(q.1 + 1 == i && q.2.category == 2))))) : lv_has ls nL (a_L 0 ((L.set i (some v)).set (i + 1) none)) := by
  refine ⟨h.1, h.2.1, fun q hq => h.2.2 q ?_⟩
  obtain ⟨j, h1, h2⟩ := (a_L_mem _ 0 q).mp hq
  rw [Nat.zero_add] at h2
  by_cases hj1 : j = i + 1
  · subst hj1
    by_cases hlt : i + 1 < (L.set i (some v)).length
    · rw [List.getElem?_set_self hlt] at h1
      cases h1
    · rw [List.getElem?_eq_none (by rw [List.length_set]; omega)] at h1
      cases h1
  · rw [List.getElem?_set_ne (Ne.symm hj1)] at h1
    by_cases hj : j = i
    · subst hj
      by_cases hlt : j < L.length
      · rw [List.getElem?_set_self hlt] at h1
        obtain ⟨q1, q2⟩ := q
        simp at h1 h2
        subst h1; subst h2
        exact List.mem_cons_self
      · rw [List.getElem?_eq_none (by rw [List.length_set]; omega)] at h1
        cases h1
    · rw [List.getElem?_set_ne (Ne.symm hj)] at h1
      refine List.mem_cons_of_mem _ (List.mem_filter.mpr ⟨(a_L_mem L 0 q).mpr ⟨j, h1, by omega⟩, ?_⟩)
      have e1 : (q.1 == i) = false := by simp; omega
      have e4 : (q.1 == i + 1) = false := by simp; omega
      rw [e1, e4]
      by_cases e2 : q.1 + 1 = i
      · have hcat := hc j _ (by omega) h1
        have hcat : q.2.category = 1 := by simpa [a_c1] using hcat
        simp [hcat]
      · have e3 : (q.1 + 1 == i) = false := by simp; omega
        rw [e3]
        rfl
section LD
variable {G : aG} {p : Program} {l : Launch} {e : Env} {R : Room} {s : State} {m : MethodId} {args : Array Value} {below : List Frame} {meth : Method} {c : Code} {A : Nat → Prop} {y : MethodName} {cc : ByteArray} {nL : Nat} {rt : Option FieldType} {Q : State → Prop} {V : aWd} {pc : Nat} {st : List Value}
theorem a_dstore_5 (C : Cx G p l s m args meth c A y cc nL rt) {x : UInt64} {z0 z1 z2 z3 z4 z5 z6 : Option Value} {r : List (Option Value)} (d : decode cc pc = .ok (.dstore 5, 2)) (hn : 6 < nL) (hc : a_c1 z4 = true) (k : AW G p l e R s m args below meth c A nL Q V (pc + 2) (z0 :: z1 :: z2 :: z3 :: z4 :: some (.double x) :: none :: r) st) : AW G p l e R s m args below meth c A nL Q V pc (z0 :: z1 :: z2 :: z3 :: z4 :: z5 :: z6 :: r) (.double x :: st) :=
  fun h n u hV H locs ls hz hu hR hA hS hl => lv_dstore C.1 C.2.1 d hl hn rfl (fun ls hl => k h n u hV H locs ls hz hu hR hA hS (a_set2 (L := (z0 :: z1 :: z2 :: z3 :: z4 :: z5 :: z6 :: r)) (i := 5) (a_hc (i := 4) rfl hc) hl))
theorem a_dstore_7 (C : Cx G p l s m args meth c A y cc nL rt) {x : UInt64} {z0 z1 z2 z3 z4 z5 z6 z7 z8 : Option Value} {r : List (Option Value)} (d : decode cc pc = .ok (.dstore 7, 2)) (hn : 8 < nL) (hc : a_c1 z6 = true) (k : AW G p l e R s m args below meth c A nL Q V (pc + 2) (z0 :: z1 :: z2 :: z3 :: z4 :: z5 :: z6 :: some (.double x) :: none :: r) st) : AW G p l e R s m args below meth c A nL Q V pc (z0 :: z1 :: z2 :: z3 :: z4 :: z5 :: z6 :: z7 :: z8 :: r) (.double x :: st) :=
  fun h n u hV H locs ls hz hu hR hA hS hl => lv_dstore C.1 C.2.1 d hl hn rfl (fun ls hl => k h n u hV H locs ls hz hu hR hA hS (a_set2 (L := (z0 :: z1 :: z2 :: z3 :: z4 :: z5 :: z6 :: z7 :: z8 :: r)) (i := 7) (a_hc (i := 6) rfl hc) hl))
end LD
