set_option maxRecDepth 100000
/-! EXCEPTIONS -/
def exN : Nat → String
  | 0 => "java/lang/IndexOutOfBoundsException"
  | 1 => "java/lang/IllegalArgumentException"
  | 2 => "java/lang/IllegalStateException"
  | _ => "MaltDrums$Misspelled"
def a_XC (G : aG) (px : String → AH → Prop) (A : Nat → Prop) : String → State → State → Prop := fun Es st t => (∃ h, px Es h ∧ a_R G h t.heap ∧ ∀ a e, h a = some e → A a) ∧ va_F A st t
def o_px (X : Nat → OS → Prop) (h0 : AH) (E : Nat → Prop) : String → AH → Prop := fun Es h => ∃ (k : Nat) (σ1 : OS), Es = exN k ∧ X k σ1 ∧ OV h E σ1 ∧ ∀ q, E q → h q = h0 q
/-- the state that an exception leaves: r cells may be made -/
def oXs (σ : OS) (r : Nat) : OS := (σ.1, σ.2.1, r, 0, σ.2.2.2.2)
/-- a contract of a method that returns or throws -/
def CTX (l : Launch) (y : MethodName) (ws : List Cond) (k : Nat) (G : aG) (vs : List Value) (h0 : AH) (n0 u0 mc ms : Nat) (post : Option Value → aWd) (px : String → AH → Prop) : Prop :=
  l.flags = flags0 → vx_Met l y ws (aRm k mc ms) (a_Pc G vs h0 n0 u0) (a_Qc G post (a_A h0 n0)) (a_XC G px (a_A h0 n0)) mc ms (a_A h0 n0)
theorem CTX.intro {l : Launch} {y : MethodName} {k : Nat} {G : aG} {vs : List Value} {h0 : AH} {n0 u0 mc ms : Nat} {post : Option Value → aWd} {px : String → AH → Prop} {cc : ByteArray} {maxL : Nat} {ret : Option FieldType} (L : List (Option Value)) (hy : plainName y.cls = true) (hL : a_L 0 L = lv_args 0 vs) (hn : (lg_sl vs).length ≤ maxL)
    (body : ∀ (p : Program) (e : Env) (s : State) (m : MethodId) (args : Array Value) (below : List Frame) (meth : Method) (c : Code), Cx G p l s m args meth c (a_A h0 n0) y cc maxL ret → s.heap.size = n0 → slT s.heap = u0 → (∀ x ∈ c.exceptionTable.toList, False) →
      AW G p l e (aRm k mc ms) s m args below meth c (a_A h0 n0) maxL (vx_MQ below (a_Qc G post (a_A h0 n0)) (a_XC G px (a_A h0 n0)) args s mc ms (a_A h0 n0)) (aIs h0 n0 u0) 0 L []) : CTX l y (ws_ y cc maxL ret) k G vs h0 n0 u0 mc ms post px := by
  intro hfl
  refine vx_ofW (cc := cc) (maxL := maxL) (ret := ret) hy rfl ?_
  intro p e s m args below meth c s₁ B hml ht hv
  obtain ⟨rfl, hz, hu, hR, hK, hSC⟩ := hv
  have hts := atoms_spec (ws := ws_ y cc maxL ret) B.pre
  have C : Cx G p l s m vs.toArray meth c (a_A h0 n0) y cc maxL ret := ⟨B.exec, B.bytes, hml, findClass_of_methodNamed B.named, fun w h => hts w (List.mem_cons_of_mem _ h), B.notSynchronized, B.returns, hK, fun q hq => Or.inr (by omega), hSC, (name_of_methodNamed B.named B.method).1, hfl⟩
  have hl := lv_entry vs (n := maxL) hn
  rw [lg_entry_eq]
  rw [← hL] at hl
  have W0 := body p e s m vs.toArray below meth c C hz hu ht h0 n0 u0 ⟨rfl, rfl, rfl⟩ s.heap [] _ hz hu hR (a_A.self (G := G)) va_S.rf hl
  rw [show n0 - s.heap.size = 0 by omega, show u0 - slT s.heap = 0 by omega] at W0
  exact W0
/-- .. that has handlers -/
theorem CTX.introW {l : Launch} {y : MethodName} {k : Nat} {G : aG} {vs : List Value} {h0 : AH} {n0 u0 mc ms : Nat} {post : Option Value → aWd} {px : String → AH → Prop} {cc : ByteArray} {maxL : Nat} {ret : Option FieldType} {hh : List (Nat × Nat × Nat × Nat)} (L : List (Option Value)) (hy : plainName y.cls = true) (hL : a_L 0 L = lv_args 0 vs) (hn : (lg_sl vs).length ≤ maxL)
    (body : ∀ (p : Program) (e : Env) (s : State) (m : MethodId) (args : Array Value) (below : List Frame) (meth : Method) (c : Code), Cx G p l s m args meth c (a_A h0 n0) y cc maxL ret → s.heap.size = n0 → slT s.heap = u0 → c.exceptionTable.toList = tableOf hh →
      AW G p l e (aRm k mc ms) s m args below meth c (a_A h0 n0) maxL (vx_MQ below (a_Qc G post (a_A h0 n0)) (a_XC G px (a_A h0 n0)) args s mc ms (a_A h0 n0)) (aIs h0 n0 u0) 0 L []) : CTX l y (wsW_ y cc maxL ret hh) k G vs h0 n0 u0 mc ms post px := by
  intro hfl
  refine vx_ofWH (cc := cc) (maxL := maxL) (ret := ret) (hh := hh) hy rfl ?_
  intro p e s m args below meth c s₁ B hml hv
  obtain ⟨rfl, hz, hu, hR, hK, hSC⟩ := hv
  have hts := atoms_spec (ws := wsW_ y cc maxL ret hh) B.pre
  have ht := vx_table (x := y) B (hts _ List.mem_cons_self)
  have C : Cx G p l s m vs.toArray meth c (a_A h0 n0) y cc maxL ret := ⟨B.exec, B.bytes, hml, findClass_of_methodNamed B.named, fun w h => hts w (List.mem_cons_of_mem _ h), B.notSynchronized, B.returns, hK, fun q hq => Or.inr (by omega), hSC, (name_of_methodNamed B.named B.method).1, hfl⟩
  have hl := lv_entry vs (n := maxL) hn
  rw [lg_entry_eq]
  rw [← hL] at hl
  have W0 := body p e s m vs.toArray below meth c C hz hu ht h0 n0 u0 ⟨rfl, rfl, rfl⟩ s.heap [] _ hz hu hR (a_A.self (G := G)) va_S.rf hl
  rw [show n0 - s.heap.size = 0 by omega, show u0 - slT s.heap = 0 by omega] at W0
  exact W0
section XRows
variable {G : aG} {p : Program} {l : Launch} {e : Env} {R : Room} {s : State} {m : MethodId} {args : Array Value} {below : List Frame} {meth : Method} {c : Code} {A : Nat → Prop} {y : MethodName} {cc : ByteArray} {nL : Nat} {rt : Option FieldType} {Q : State → Prop} {V V1 : aWd} {pc : Nat} {L : List (Option Value)} {st : List Value}
variable {Qc : Array Value → State → Outcome → State → Prop} {XC : String → State → State → Prop} {px : String → AH → Prop}
theorem a_xret {mc ms : Nat} {free : Addr → Prop} (k : AW G p l e R s m args below meth c A nL (MQ below Qc args s mc ms free) V pc L st) : AW G p l e R s m args below meth c A nL (vx_MQ below Qc XC args s mc ms free) V pc L st :=
  fun h n u hV H locs ls hz hu hR hA hS hl => vx_ret (k h n u hV H locs ls hz hu hR hA hS hl)
/-- an object of the class E was thrown at pc -/
def AX (G : aG) (p : Program) (l : Launch) (e : Env) (R : Room) (s : State) (m : MethodId) (args : Array Value) (below : List Frame) (meth : Method) (c : Code) (A : Nat → Prop) (nL : Nat) (Q : State → Prop) (V : aWd) (pc : Nat) (L : List (Option Value)) (E : String) : Prop :=
  ∀ (h : AH) (n u : Nat), V h n u → ∀ (H : Heap) (locs : List Loc) (ls : Array Slot), H.size = n → slT H = u → a_R G h H → (∀ a e, h a = some e → A a) → va_S A s.heap H locs → lv_has ls nL (a_L 0 L) → ∀ (ce : Cell) (q : Addr) (rest : List Value), H[q]? = some ce → ce.vm = .none → s.vm.findClass E = some ce.cls →
    vx_W p l e R s m args below meth c H locs (n - s.heap.size) (u - slT s.heap) Q (F0 m pc ls rest) q
theorem ax_world {E : String} {V1 : aWd} (hV : ∀ h n u, V h n u → V1 h n u) (k : AX G p l e R s m args below meth c A nL Q V1 pc L E) : AX G p l e R s m args below meth c A nL Q V pc L E := fun h n u q => k h n u (hV h n u q)
theorem ax_out {E : String} {mc ms : Nat} (C : Cx G p l s m args meth c A y cc nL rt) (ht : ∀ x ∈ c.exceptionTable.toList, covers x pc = false) (hp : ∀ h n u, V h n u → px E h ∧ n ≤ s.heap.size + mc ∧ u ≤ slT s.heap + ms) : AX G p l e R s m args below meth c A nL (vx_MQ below Qc (a_XC G px A) args s mc ms A) V pc L E := by
  intro h n u hV H locs ls hz hu hR hA hS hl ce q rest h1 h2 h3
  obtain ⟨q1, q2, q3⟩ := hp h n u hV
  exact vx_out ht C.locks h1 h2 h3 (fun t ht hW => ⟨⟨h, q1, by rw [ht]; exact hR, hA⟩, hS.F ht⟩) hS.2.2 (by omega) (by omega)
theorem ax_outP {E : String} {mc ms : Nat} (C : Cx G p l s m args meth c A y cc nL rt) (ht : ∀ z ∈ c.exceptionTable.toList, covers z pc = false ∨ (z.catchType ≠ 0 ∧ ∃ nm : String, Cond.classLink y.cls z.catchType nm ∈ lw_all ∧ (E, nm) ∈ ncL)) (hp : ∀ h n u, V h n u → px E h ∧ n ≤ s.heap.size + mc ∧ u ≤ slT s.heap + ms) : AX G p l e R s m args below meth c A nL (vx_MQ below Qc (a_XC G px A) args s mc ms A) V pc L E := by
  intro h n u hV H locs ls hz hu hR hA hS hl ce q rest h1 h2 h3
  obtain ⟨q1, q2, q3⟩ := hp h n u hV
  exact vx_outP C.own C.locks (fun z hz => (ht z hz).imp id fun ⟨a1, nm, a2, a3⟩ => ⟨a1, nm, C.ts _ a2, C.K.2.2.2.2.2.1 _ a3⟩) h1 h2 h3 (fun t ht hW => ⟨⟨h, q1, by rw [ht]; exact hR, hA⟩, hS.F ht⟩) hS.2.2 (by omega) (by omega)
theorem ax_catch {E nm : String} (C : Cx G p l s m args meth c A y cc nL rt) (pre : List ExceptionTableEntry) (x : ExceptionTableEntry) (suf : List ExceptionTableEntry) (hsplit : c.exceptionTable.toList = pre ++ x :: suf)
    (hpass : ∀ z ∈ pre, covers z pc = false ∨ (z.catchType ≠ 0 ∧ ∃ nm : String, Cond.classLink y.cls z.catchType nm ∈ lw_all ∧ (E, nm) ∈ ncL)) (hx : covers x pc = true) (h0 : x.catchType ≠ 0) (hlink : Cond.classLink y.cls x.catchType nm ∈ lw_all) (hcast : Cond.castable E nm ∈ lw_tbl)
    (kk : ∀ q, AW G p l e R s m args below meth c A nL Q V x.handlerPc L [.ref q]) : AX G p l e R s m args below meth c A nL Q V pc L E := by
  intro h n u hV H locs ls hz hu hR hA hS hl ce q rest h1 h2 h3
  exact vx_catch C.own pre x suf hsplit (fun z hz => (hpass z hz).imp id fun ⟨a1, nm, a2, a3⟩ => ⟨a1, nm, C.ts _ a2, C.K.2.2.2.2.2.1 _ a3⟩) hx h0 (C.ts _ hlink) (va_Nw.use rfl (C.K.2.1 _ hcast rfl)) h1 h2 h3 (kk q h n u hV H locs ls hz hu hR hA hS hl)
/-- an object of class 8 (Misspelled) is thrown -/
theorem a_athrow {q : Nat} (C : Cx G p l s m args meth c A y cc nL rt) (hq : ∀ h n u, V h n u → ∃ fs, h q = some (.inr (8, fs))) (d : decode cc pc = .ok (.athrow, 1)) (kk : AX G p l e R s m args below meth c A nL Q V pc L "MaltDrums$Misspelled") : AW G p l e R s m args below meth c A nL Q V pc L (.ref q :: st) := by
  intro h n u hV H locs ls hz hu hR hA hS hl
  obtain ⟨fs, hq1⟩ := hq h n u hV
  obtain ⟨r, hr, cell, q1, q2, q3, q4⟩ := hR q _ hq1
  have hr : r = (RX10, TX10, 6) := Option.some.inj (hr.symm.trans rfl)
  subst hr
  exact vx_athrow C.exec C.2.1 d (kk h n u hV H locs ls hz hu hR hA hS hl cell q st q1 q3 (by rw [q2]; exact (C.K.1.1 8 _ rfl).2.1))
theorem a_runX {H : Heap} {locs : List Loc} {ls : Array Slot} {n u mc ms : Nat} {st0 : List Value} {a1 : Array Value} {A1 : Nat → Prop} {post : Option Value → aWd} (hsz : s.heap.size ≤ n) (hsu : slT s.heap ≤ u) (hz : H.size = n) (hu : slT H = u) (hr : vx_Run p l e R s m args below meth c H locs (n - s.heap.size) (u - slT s.heap) mc ms (F0 m pc ls st0) st (a_Qc G post A1 a1) (a_XC G px A1) A1) (hS : va_S A s.heap H locs) (hl : lv_has ls nL (a_L 0 L)) (hA1 : ∀ q, A1 q → A q)
    (kk : ∀ r h1 n1 u1, post r h1 n1 u1 → AW G p l e R s m args below meth c A nL Q (aIs h1 n1 u1) (pc + 3) L (r.toList ++ st))
    (kx : ∀ E h1 n1 u1, px E h1 → n ≤ n1 → n1 ≤ n + mc → u1 ≤ u + ms → slT s.heap ≤ u1 → AX G p l e R s m args below meth c A nL Q (aIs h1 n1 u1) pc L E) : W p l e R s m args below meth c H locs (n - s.heap.size) (u - slT s.heap) Q (F0 m pc ls st0) := by
  intro T hT X
  rcases hr T hT X with ⟨v, st₀, t, T', Lx, h0, X', hL, e1, e2, ⟨⟨r, h1, hv, hp, hR1, hAA⟩, hz1, hk⟩, stp⟩ | ⟨q, st₀, t, T', Lx, E, ce, h0, X', hL, e1, e2, ⟨⟨h1, hp, hR1, hAA⟩, hz1, hk⟩, hce, hcv, hcl, stp⟩
  · cases hv
    rw [h0] at hz1 hk
    obtain ⟨t2, a2, b2⟩ := W_tight (cells := n - s.heap.size + mc) (slots := u - slT s.heap + ms) (kk v h1 T'.heap.size (slT T'.heap) (by rw [e1]; exact hp) h1 _ _ ⟨rfl, rfl, rfl⟩ T'.heap (locs ++ Lx) ls rfl rfl (by rw [e1]; exact hR1) (fun a f hf => hA1 _ (hAA a f hf))
      ⟨Nat.le_trans hS.1 (by rw [e1]; exact hz1), fun q h1 h2 => by rw [e1, hk q (Nat.lt_of_lt_of_le h1 hS.1) (fun z => h2 (hA1 q z))]; exact hS.2.1 q h1 h2, fun q hq => by
        rcases List.mem_append.mp hq with h | h
        · exact hS.2.2 q h
        · exact hA1 _ (hL q h)⟩ hl) T' rfl X'
    exact ⟨t2, stp t2 a2, b2⟩
  · rw [h0] at hz1 hk
    have hszz : T'.heap.size ≤ n + mc ∧ slT T'.heap ≤ u + ms ∧ slT s.heap ≤ slT T'.heap := by
      have b0 := X'.book
      have b1 : T'.slotsUsed = slT T'.heap := by
        have h := b0
        unfold State.slotsTrue at h
        exact eq_of_beq h
      have b2 : s.slotsUsed = slT s.heap := by
        have h := X'.room
        simp only [State.hasRoom, Bool.and_eq_true] at h
        have h := h.2
        unfold State.slotsTrue at h
        exact eq_of_beq h
      obtain ⟨a1, a2, a3, a4, a5, a6⟩ := X'.same
      have a3 : T'.heap.size ≤ s.heap.size + (n - s.heap.size + mc) := a3
      have b4 : T'.slotsUsed = s.slotsUsed + ((T'.heap.toList.drop s.heap.size).map (fun c => c.slots.size)).sum := a4
      have b5 : ((T'.heap.toList.drop s.heap.size).map (fun c => c.slots.size)).sum ≤ u - slT s.heap + ms := a5
      omega
    have hT9 : n ≤ T'.heap.size := by rw [e1, ← hz]; exact hz1
    obtain ⟨t2, a2, b2⟩ := kx E h1 T'.heap.size (slT T'.heap) hp hT9 hszz.1 hszz.2.1 hszz.2.2 h1 _ _ ⟨rfl, rfl, rfl⟩ T'.heap (locs ++ Lx) ls rfl rfl (by rw [e1]; exact hR1) (fun a f hf => hA1 _ (hAA a f hf))
      ⟨Nat.le_trans hS.1 (by rw [e1]; exact hz1), fun q h1 h2 => by rw [e1, hk q (Nat.lt_of_lt_of_le h1 hS.1) (fun z => h2 (hA1 q z))]; exact hS.2.1 q h1 h2, fun q hq => by
        rcases List.mem_append.mp hq with h | h
        · exact hS.2.2 q h
        · exact hA1 _ (hL q h)⟩ hl ce q st (by rw [e1]; exact hce) hcv hcl T' rfl (stand_tight X')
    exact ⟨t2, stp.trans a2, b2⟩
theorem a_throwS (C : Cx G p l s m args meth c A y cc nL rt) {cls text : String} {names : List String} {ik is ic sa kf MC MS : Nat} (hcls : Bundle.fit cls = true) (hnames : ∀ n ∈ names, Bundle.fit n = true) (hk : Cond.classLink y.cls ik cls ∈ lw_all) (hini : Cond.initialized cls ∈ lw_all) (hstr : vk_R y.cls is text sa s) (hat : ∀ w ∈ vx_atS y.cls ic cls names, w.before args s = true) (hgood : ∀ w ∈ Cond.classLink y.cls ik cls :: Cond.initialized cls :: vx_atS y.cls ic cls names, vx_ot w = true)
    (hln : names.length ≤ 2) (hkf : 6 ≤ kf) (d0 : decode cc pc = .ok (.new ik, 3)) (d3 : decode cc (pc + 3) = .ok (.dup, 1)) (d4 : decode cc (pc + 4) = .ok (.ldc is, 2)) (d6 : decode cc (pc + 6) = .ok (.invokespecial ic, 3)) (d9 : decode cc (pc + 9) = .ok (.athrow, 1))
    (hout : ∀ x ∈ c.exceptionTable.toList, covers x (pc + 9) = false) (hst : (st.map fun v => v.category).sum ≤ 8) (hroom : ∀ h n u, V h n u → n + 1 ≤ s.heap.size + MC ∧ u + 6 ≤ slT s.heap + MS ∧ px cls h) : AW G p l e (aRm kf MC MS) s m args below meth c A nL (vx_MQ below Qc (a_XC G px A) args s MC MS A) V pc L st := by
  intro h n u hV H locs ls hz hu hR hA hS hl
  obtain ⟨r1, r2, r3⟩ := hroom h n u hV
  have hS1 := hS.1
  refine W_sized fun w1 w2 w3 w4 => ?_
  refine vx_throwS C.exec C.2.1 (by unfold Launch.stackTraces; rw [C.fl]; decide) (names := names) C.own hcls hnames (C.ts _ hk) (C.ts _ hini) hstr hat hgood C.SC.2.1 C.SC.2.2.1 hS (by rw [C.maxL]; exact hl.1) d0 d3 d4 d6 d9 hout (by show names.length + 3 < kf; omega) (by show (st.map fun v => v.category).sum + (13 * (names.length + 1) + 43) ≤ 48 * kf; omega) (by show n - s.heap.size + 1 ≤ MC; omega) (by show u - slT s.heap + 6 ≤ MS; omega) C.locks (fun t hW hz1 hk1 => ⟨⟨h, r3, fun a f hf => (hR a f hf).kept (hk1 a (hR.lt hf)), hA⟩, Nat.le_trans hS.1 hz1, fun q g1 g2 => (hk1 q (Nat.lt_of_lt_of_le g1 hS.1)).trans (hS.2.1 q g1 g2)⟩) hS.2.2 (by show n - s.heap.size + 1 ≤ MC; omega) (by show u - slT s.heap + 6 ≤ MS; omega)
/-- the words of a throw -/
theorem vx_d {args : Array Value} {s : State} {w : Cond} {B : List Cond} (h : vx_no w = true → w.before args s = true) (t : ∀ w ∈ B, vx_no w = true → w.before args s = true) : ∀ w' ∈ w :: B, vx_no w' = true → w'.before args s = true := fun w' h' hn => (List.mem_cons.mp h').elim (fun e => by subst e; exact h hn) (fun h => t w' h hn)
theorem vx_dn {args : Array Value} {s : State} : ∀ w ∈ ([] : List Cond), vx_no w = true → w.before args s = true := fun _ h => nomatch h
theorem hat_IO (C : Cx G p l s m args meth c A y cc nL rt) : ∀ w ∈ vx_atS "MaltDrums" 5 "java/lang/IndexOutOfBoundsException" ["java/lang/RuntimeException", "java/lang/Exception"], w.before args s = true := by
  have h : ∀ w ∈ Bundle.ownAtoms "MaltDrums" 5 "java/lang/IndexOutOfBoundsException" ["java/lang/RuntimeException", "java/lang/Exception"], vx_no w = true → w.before args s = true :=
    vx_d (fun _ => C.ts _ q78) (vx_d (fun _ => C.ts _ q535) (vx_d (fun _ => C.ts _ q544) (vx_d (fun _ => C.ts _ q551) (vx_d (fun _ => C.ts _ q554) (vx_d (fun _ => C.ts _ q556) (vx_d (fun _ => C.ts _ q536) (vx_d (fun _ => C.ts _ q537) (vx_d (fun _ => C.ts _ q107) (vx_d (fun _ => C.ts _ q108) (vx_d (fun _ => C.ts _ q538) (vx_d (fun _ => C.ts _ q543) (vx_d (fun _ => C.ts _ q552) (vx_d (fun _ => C.ts _ q577) (vx_d (fun _ => C.ts _ q525) (vx_d (fun _ => C.ts _ q578) (vx_d (fun _ => C.ts _ q527) (vx_d (fun _ => C.ts _ q579) (vx_d (fun _ => C.ts _ q529) (vx_d (fun _ => C.ts _ q539) (vx_d (fun z => absurd z (by decide +kernel)) (vx_d (fun _ => C.ts _ q541) (vx_d (fun z => absurd z (by decide +kernel)) (vx_d (fun _ => C.ts _ q531) (vx_d (fun _ => C.ts _ q573) (vx_d (fun _ => C.ts _ q574) (vx_d (fun _ => C.ts _ q576) (vx_d (fun _ => C.ts _ q531) (vx_d (fun _ => C.ts _ q615) (vx_d (fun _ => C.ts _ q616) (vx_d (fun _ => C.ts _ q617) (vx_d (fun _ => C.ts _ q567) (vx_d (fun _ => va_Nw.use rfl (C.K.2.1 _ q517 rfl)) (vx_d (fun _ => C.ts _ q567) (vx_d (fun _ => C.ts _ q568) (vx_d (fun _ => C.ts _ q569) (vx_d (fun _ => C.ts _ q570) (vx_d (fun _ => va_Nw.use rfl (C.K.2.1 _ q519 rfl)) (vx_d (fun _ => C.ts _ q570) (vx_d (fun _ => C.ts _ q571) (vx_d (fun _ => C.ts _ q572) (vx_d (fun _ => C.ts _ q573) (vx_d (fun _ => va_Nw.use rfl (C.K.2.1 _ q521 rfl)) (vx_d (fun _ => C.ts _ q1328) (vx_d (fun _ => C.ts _ q1319) (vx_d (fun _ => va_Nw.use rfl (C.K.2.1 _ q1320 rfl)) (vx_d (fun _ => C.ts _ q1321) (vx_d (fun _ => C.ts _ q549) (vx_d (fun _ => C.ts _ q1322) (vx_d (fun _ => C.ts _ q1323) (vx_d (fun _ => C.ts _ q1324) (vx_d (fun _ => C.ts _ q1325) (vx_d (fun z => absurd z (by decide +kernel)) (vx_d (fun z => absurd z (by decide +kernel)) (vx_d (fun _ => C.ts _ q575) (vx_d (fun _ => C.ts _ q533) (vx_d (fun _ => C.ts _ q1326) (vx_dn)))))))))))))))))))))))))))))))))))))))))))))))))))))))))
  intro w hw
  obtain ⟨h1, h2⟩ := List.mem_filter.mp hw
  exact h w h1 h2
theorem hgo_IO : ∀ w ∈ Cond.classLink "MaltDrums" 1 "java/lang/IndexOutOfBoundsException" :: Cond.initialized "java/lang/IndexOutOfBoundsException" :: vx_atS "MaltDrums" 5 "java/lang/IndexOutOfBoundsException" ["java/lang/RuntimeException", "java/lang/Exception"], vx_ot w = true := by decide +kernel
theorem hat_IA (C : Cx G p l s m args meth c A y cc nL rt) : ∀ w ∈ vx_atS "MaltDrums" 13 "java/lang/IllegalArgumentException" ["java/lang/RuntimeException", "java/lang/Exception"], w.before args s = true := by
  have h : ∀ w ∈ Bundle.ownAtoms "MaltDrums" 13 "java/lang/IllegalArgumentException" ["java/lang/RuntimeException", "java/lang/Exception"], vx_no w = true → w.before args s = true :=
    vx_d (fun _ => C.ts _ q78) (vx_d (fun _ => C.ts _ q535) (vx_d (fun _ => C.ts _ q544) (vx_d (fun _ => C.ts _ q551) (vx_d (fun _ => C.ts _ q554) (vx_d (fun _ => C.ts _ q556) (vx_d (fun _ => C.ts _ q536) (vx_d (fun _ => C.ts _ q537) (vx_d (fun _ => C.ts _ q107) (vx_d (fun _ => C.ts _ q108) (vx_d (fun _ => C.ts _ q538) (vx_d (fun _ => C.ts _ q543) (vx_d (fun _ => C.ts _ q552) (vx_d (fun _ => C.ts _ q577) (vx_d (fun _ => C.ts _ q525) (vx_d (fun _ => C.ts _ q578) (vx_d (fun _ => C.ts _ q527) (vx_d (fun _ => C.ts _ q579) (vx_d (fun _ => C.ts _ q529) (vx_d (fun _ => C.ts _ q539) (vx_d (fun z => absurd z (by decide +kernel)) (vx_d (fun _ => C.ts _ q541) (vx_d (fun z => absurd z (by decide +kernel)) (vx_d (fun _ => C.ts _ q531) (vx_d (fun _ => C.ts _ q573) (vx_d (fun _ => C.ts _ q574) (vx_d (fun _ => C.ts _ q576) (vx_d (fun _ => C.ts _ q531) (vx_d (fun _ => C.ts _ q564) (vx_d (fun _ => C.ts _ q565) (vx_d (fun _ => C.ts _ q566) (vx_d (fun _ => C.ts _ q567) (vx_d (fun _ => va_Nw.use rfl (C.K.2.1 _ q517 rfl)) (vx_d (fun _ => C.ts _ q567) (vx_d (fun _ => C.ts _ q568) (vx_d (fun _ => C.ts _ q569) (vx_d (fun _ => C.ts _ q570) (vx_d (fun _ => va_Nw.use rfl (C.K.2.1 _ q519 rfl)) (vx_d (fun _ => C.ts _ q570) (vx_d (fun _ => C.ts _ q571) (vx_d (fun _ => C.ts _ q572) (vx_d (fun _ => C.ts _ q573) (vx_d (fun _ => va_Nw.use rfl (C.K.2.1 _ q521 rfl)) (vx_d (fun _ => C.ts _ q1236) (vx_d (fun _ => C.ts _ q514) (vx_d (fun _ => va_Nw.use rfl (C.K.2.1 _ q515 rfl)) (vx_d (fun _ => C.ts _ q522) (vx_d (fun _ => C.ts _ q523) (vx_d (fun _ => C.ts _ q524) (vx_d (fun _ => C.ts _ q526) (vx_d (fun _ => C.ts _ q528) (vx_d (fun _ => C.ts _ q530) (vx_d (fun z => absurd z (by decide +kernel)) (vx_d (fun z => absurd z (by decide +kernel)) (vx_d (fun _ => C.ts _ q575) (vx_d (fun _ => C.ts _ q533) (vx_d (fun _ => C.ts _ q532) (vx_dn)))))))))))))))))))))))))))))))))))))))))))))))))))))))))
  intro w hw
  obtain ⟨h1, h2⟩ := List.mem_filter.mp hw
  exact h w h1 h2
theorem hgo_IA : ∀ w ∈ Cond.classLink "MaltDrums" 9 "java/lang/IllegalArgumentException" :: Cond.initialized "java/lang/IllegalArgumentException" :: vx_atS "MaltDrums" 13 "java/lang/IllegalArgumentException" ["java/lang/RuntimeException", "java/lang/Exception"], vx_ot w = true := by decide +kernel
theorem hat_IS (C : Cx G p l s m args meth c A y cc nL rt) : ∀ w ∈ vx_atS "MaltDrums" 18 "java/lang/IllegalStateException" ["java/lang/RuntimeException", "java/lang/Exception"], w.before args s = true := by
  have h : ∀ w ∈ Bundle.ownAtoms "MaltDrums" 18 "java/lang/IllegalStateException" ["java/lang/RuntimeException", "java/lang/Exception"], vx_no w = true → w.before args s = true :=
    vx_d (fun _ => C.ts _ q78) (vx_d (fun _ => C.ts _ q535) (vx_d (fun _ => C.ts _ q544) (vx_d (fun _ => C.ts _ q551) (vx_d (fun _ => C.ts _ q554) (vx_d (fun _ => C.ts _ q556) (vx_d (fun _ => C.ts _ q536) (vx_d (fun _ => C.ts _ q537) (vx_d (fun _ => C.ts _ q107) (vx_d (fun _ => C.ts _ q108) (vx_d (fun _ => C.ts _ q538) (vx_d (fun _ => C.ts _ q543) (vx_d (fun _ => C.ts _ q552) (vx_d (fun _ => C.ts _ q577) (vx_d (fun _ => C.ts _ q525) (vx_d (fun _ => C.ts _ q578) (vx_d (fun _ => C.ts _ q527) (vx_d (fun _ => C.ts _ q579) (vx_d (fun _ => C.ts _ q529) (vx_d (fun _ => C.ts _ q539) (vx_d (fun z => absurd z (by decide +kernel)) (vx_d (fun _ => C.ts _ q541) (vx_d (fun z => absurd z (by decide +kernel)) (vx_d (fun _ => C.ts _ q531) (vx_d (fun _ => C.ts _ q573) (vx_d (fun _ => C.ts _ q574) (vx_d (fun _ => C.ts _ q576) (vx_d (fun _ => C.ts _ q531) (vx_d (fun _ => C.ts _ q1251) (vx_d (fun _ => C.ts _ q1252) (vx_d (fun _ => C.ts _ q1253) (vx_d (fun _ => C.ts _ q567) (vx_d (fun _ => va_Nw.use rfl (C.K.2.1 _ q517 rfl)) (vx_d (fun _ => C.ts _ q567) (vx_d (fun _ => C.ts _ q568) (vx_d (fun _ => C.ts _ q569) (vx_d (fun _ => C.ts _ q570) (vx_d (fun _ => va_Nw.use rfl (C.K.2.1 _ q519 rfl)) (vx_d (fun _ => C.ts _ q570) (vx_d (fun _ => C.ts _ q571) (vx_d (fun _ => C.ts _ q572) (vx_d (fun _ => C.ts _ q573) (vx_d (fun _ => va_Nw.use rfl (C.K.2.1 _ q521 rfl)) (vx_d (fun _ => C.ts _ q1250) (vx_d (fun _ => C.ts _ q1241) (vx_d (fun _ => va_Nw.use rfl (C.K.2.1 _ q1242 rfl)) (vx_d (fun _ => C.ts _ q1243) (vx_d (fun _ => C.ts _ q548) (vx_d (fun _ => C.ts _ q1244) (vx_d (fun _ => C.ts _ q1245) (vx_d (fun _ => C.ts _ q1246) (vx_d (fun _ => C.ts _ q1247) (vx_d (fun z => absurd z (by decide +kernel)) (vx_d (fun z => absurd z (by decide +kernel)) (vx_d (fun _ => C.ts _ q575) (vx_d (fun _ => C.ts _ q533) (vx_d (fun _ => C.ts _ q1248) (vx_dn)))))))))))))))))))))))))))))))))))))))))))))))))))))))))
  intro w hw
  obtain ⟨h1, h2⟩ := List.mem_filter.mp hw
  exact h w h1 h2
theorem hgo_IS : ∀ w ∈ Cond.classLink "MaltDrums" 14 "java/lang/IllegalStateException" :: Cond.initialized "java/lang/IllegalStateException" :: vx_atS "MaltDrums" 18 "java/lang/IllegalStateException" ["java/lang/RuntimeException", "java/lang/Exception"], vx_ot w = true := by decide +kernel
end XRows
