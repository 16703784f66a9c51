set_option maxRecDepth 100000
/-! CATCH ANY, AND THROW AGAIN -/
section Fin
variable {G : aG} {p : Program} {l : Launch} {e : Env} {R : Room} {s : State} {m : MethodId} {args : Array Value} {below : List Frame} {meth : Method} {c : Code} {A : Nat → Prop} {y : MethodName} {cc : ByteArray} {nL : Nat} {rt : Option FieldType} {Q : State → Prop} {V V1 : aWd} {pc : Nat} {L : List (Option Value)} {st : List Value} {q9 : Nat} {ce9 : Cell}
/-- .. while the cell q9 is kept -/
def AWP (q9 : Nat) (ce9 : Cell) (G : aG) (p : Program) (l : Launch) (e : Env) (R : Room) (s : State) (m : MethodId) (args : Array Value) (below : List Frame) (meth : Method) (c : Code) (A : Nat → Prop) (nL : Nat) (Q : State → Prop) (V : aWd) (pc : Nat) (L : List (Option Value)) (st : List Value) : Prop :=
  ∀ (h : AH) (n u : Nat), V h n u → ∀ (H : Heap) (locs : List Loc) (ls : Array Slot), H.size = n → slT H = u → a_R G h H → (∀ a e, h a = some e → A a) → va_S A s.heap H locs → lv_has ls nL (a_L 0 L) → H[q9]? = some ce9 →
    W p l e R s m args below meth c H locs (n - s.heap.size) (u - slT s.heap) Q (F0 m pc ls st)
theorem ap_astore_3 (C : Cx G p l s m args meth c A y cc nL rt) {x : Nat} {z0 z1 z2 : Option Value} {zk : Option Value} {r : List (Option Value)} (d : decode cc pc = .ok (.astore_n 3, 1)) (hn : 3 < nL) (hc : a_c1 z2 = true) (k : AWP q9 ce9 G p l e R s m args below meth c A nL Q V (pc + 1) (z0 :: z1 :: z2 :: some (.ref x) :: r) st) : AWP q9 ce9 G p l e R s m args below meth c A nL Q V pc (z0 :: z1 :: z2 :: zk :: r) (.ref x :: st) :=
  fun h n u hV H locs ls hz hu hR hA hS hl hp => lv_astore_n C.1 C.2.1 d rfl hl hn rfl (fun ls hl => k h n u hV H locs ls hz hu hR hA hS (a_set (L := (z0 :: z1 :: z2 :: zk :: r)) (i := 3) (a_hc (i := 2) rfl hc) hl) hp)
theorem ap_aload_0 (C : Cx G p l s m args meth c A y cc nL rt) {x : Nat} {r : List (Option Value)} (d : decode cc pc = .ok (.aload_n 0, 1)) (k : AWP q9 ce9 G p l e R s m args below meth c A nL Q V (pc + 1) (some (.ref x) :: r) (.ref x :: st)) : AWP q9 ce9 G p l e R s m args below meth c A nL Q V pc (some (.ref x) :: r) st :=
  fun h n u hV H locs ls hz hu hR hA hS hl hp => lv_aload_n C.1 C.2.1 d rfl (a_get hl rfl) (k h n u hV H locs ls hz hu hR hA hS hl hp)
theorem ap_aload_3 (C : Cx G p l s m args meth c A y cc nL rt) {x : Nat} {z0 z1 z2 : Option Value} {r : List (Option Value)} (d : decode cc pc = .ok (.aload_n 3, 1)) (k : AWP q9 ce9 G p l e R s m args below meth c A nL Q V (pc + 1) (z0 :: z1 :: z2 :: some (.ref x) :: r) (.ref x :: st)) : AWP q9 ce9 G p l e R s m args below meth c A nL Q V pc (z0 :: z1 :: z2 :: some (.ref x) :: r) st :=
  fun h n u hV H locs ls hz hu hR hA hS hl hp => lv_aload_n C.1 C.2.1 d rfl (a_get hl rfl) (k h n u hV H locs ls hz hu hR hA hS hl hp)
theorem ap_iload_2 (C : Cx G p l s m args meth c A y cc nL rt) {x : Int32} {z0 z1 : Option Value} {r : List (Option Value)} (d : decode cc pc = .ok (.iload_n 2, 1)) (k : AWP q9 ce9 G p l e R s m args below meth c A nL Q V (pc + 1) (z0 :: z1 :: some (.int x) :: r) (.int x :: st)) : AWP q9 ce9 G p l e R s m args below meth c A nL Q V pc (z0 :: z1 :: some (.int x) :: r) st :=
  fun h n u hV H locs ls hz hu hR hA hS hl hp => lv_iload_n C.1 C.2.1 d rfl (a_get hl rfl) (k h n u hV H locs ls hz hu hR hA hS hl hp)
theorem ap_if_eq (C : Cx G p l s m args meth c A y cc nL rt) {x : Int32} {off : Int} (tgt : Nat) (d : decode cc pc = .ok (.ifCond .eq off, 3)) (ht : (pc : Int) + off = (tgt : Int)) (kt : (x = 0) → AWP q9 ce9 G p l e R s m args below meth c A nL Q V tgt L st) (kf : (¬ x = 0) → AWP q9 ce9 G p l e R s m args below meth c A nL Q V (pc + 3) L st) : AWP q9 ce9 G p l e R s m args below meth c A nL Q V pc L (.int x :: st) :=
  fun h n u hV H locs ls hz hu hR hA hS hl hp => lv_if_eq C.1 C.2.1 d ht (fun q => kt q h n u hV H locs ls hz hu hR hA hS hl hp) (fun q => kf q h n u hV H locs ls hz hu hR hA hS hl hp)
theorem ap_getf (C : Cx G p l s m args meth c A y cc nL rt) {ref C0 : String} {T : u_T} {N ci index a : Nat} {v : Value} (hin : ∀ w ∈ u_ws C0 T N, w ∈ lw_all) (hc : aCl[ci]? = some (C0, T, N)) (k : Nat) (hk : k < N) (hlink : Cond.fieldLink y.cls index ref (T k).2.1 (T k).2.2.1 ∈ lw_all) (hsame : ref = (T k).1) (hv : ∀ h n u, V h n u → ∃ fs, h a = some (.inr (ci, fs)) ∧ fs[k]? = some v) (d : decode cc pc = .ok (.getfield index, 3)) (kk : AWP q9 ce9 G p l e R s m args below meth c A nL Q V (pc + 3) L (v :: st)) : AWP q9 ce9 G p l e R s m args below meth c A nL Q V pc L (.ref a :: st) := by
  intro h n u hV H locs ls hz hu hR hA hS hl hp
  obtain ⟨fs, e1, e2⟩ := hv h n u hV
  exact va_get C.exec C.2.1 C.ts hin C.own C.K.1 (hR.one e1) 0 rfl hc k hk (C.ts _ hlink) (by subst hsame; exact fun _ h => h) e2 d (kk h n u hV H locs ls hz hu hR hA hS hl hp)
theorem ap_putf (C : Cx G p l s m args meth c A y cc nL rt) {ref C0 : String} {T : u_T} {N ci index a : Nat} {v : Value} (hcls : ce9.cls ≠ G.1.1 ci) (hin : ∀ w ∈ u_ws C0 T N, w ∈ lw_all) (ty0 : Nat → FieldType) (hty : ∀ k, k < N → parseFieldDescriptor (T k).2.2.1 = some (ty0 k)) (hnm : ∀ a, a < N → ∀ b, b < N → a ≠ b → (T a).2.1 ≠ (T b).2.1) (hc : aCl[ci]? = some (C0, T, N)) (k : Nat) (hk : k < N) (hlink : Cond.fieldLink y.cls index ref (T k).2.1 (T k).2.2.1 ∈ lw_all) (hsame : ref = (T k).1) (hfin : (T k).2.2.2 = false) (hn : narrow (ty0 k) v = v) (hfit : fits (ty0 k) v = true) (hv : ∀ h n u, V h n u → ∃ fs, h a = some (.inr (ci, fs)) ∧ k < fs.length ∧ V1 (a_up h a (.inr (ci, fs.set k v))) n u) (d : decode cc pc = .ok (.putfield index, 3)) (kk : AWP q9 ce9 G p l e R s m args below meth c A nL Q V1 (pc + 3) L st) : AWP q9 ce9 G p l e R s m args below meth c A nL Q V pc L (v :: .ref a :: st) := by
  intro h n u hV H locs ls hz hu hR hA hS hl hp
  obtain ⟨fs, e1, e2, e3⟩ := hv h n u hV
  have hap := va_apart (own := y.cls) C.ts hin ty0 hty hnm C.K.1 hc
  obtain ⟨r, h1, cell, q1, q2, q3, q4⟩ := hR a _ e1
  have hr : r = (C0, T, N) := Option.some.inj (h1.symm.trans hc)
  subst hr
  obtain ⟨hSl, hfc, kC, hkC, hkind⟩ := C.K.1.1 ci _ hc
  obtain ⟨cf, kf, fi, f, hi, hsl⟩ := hSl k hk
  have hlay := C.ts _ (hin _ (u_in_lay hk))
  unfold u_lay at hlay
  rw [if_neg (by rw [hfin]; decide)] at hlay
  have hst := (u_facts hfc hkC (u_lays C.ts hin hk) hi).1
  have h6 := u_store hfc hkC hkind hlay hi (hty k hk) hn hfit
  refine W.putK C.exec C.2.1 (f := f) ⟨C.own, C.ts _ hlink, ⟨_, _, _, (by subst hsame; exact hi)⟩, hst⟩ (by rw [q2]; exact h6) q1 q3 (by rw [hsl]; exact k2_hasslot (q4 k hk)) rfl rfl d fun H1 g1 g2 g3 => ?_
  rw [hsl] at g1 ⊢
  have hne : q9 ≠ a := fun z => by
    rw [z] at hp
    cases hp.symm.trans q1
    exact hcls q2
  have hu1 : slT H1 = u := (slT_put q1 g1 (a_setSlot_size _ _ _) g3).trans hu
  refine W_tight ?_
  rw [g2, hz, hu1]
  exact kk _ n u e3 H1 _ ls (g2.trans hz) hu1 (hR.put (e := .inr (ci, fs.set k v)) ⟨_, hc, t_OB.to (V := updV (vp_V fs) k v) ⟨_, g1, q2, q3, t_set q4 hap hk v⟩ (fun j _ => vp_updV_set e2 v j)⟩ g3) (fun q f hq => by
    by_cases w : q = a
    · rw [w]; exact hA a _ e1
    · rw [a_up_ne w] at hq; exact hA q f hq) (hS.put g2 g3 (hA a _ e1)) hl ((g3 q9 hne).trans hp)
theorem vx_catchAny {E : String} {ce : Cell} {q : Addr} {H : Heap} {locs : List Loc} {cells slots : Nat} {ls : Array Slot} {rest : List Value} (x : ExceptionTableEntry) (suf : List ExceptionTableEntry) (hsplit : c.exceptionTable.toList = x :: suf)
    (hx : covers x pc = true) (h0 : x.catchType = 0) (hcell : H[q]? = some ce) (hv : ce.vm = .none) (hcl : s.vm.findClass E = some ce.cls)
    (kk : W p l e R s m args below meth c H locs cells slots Q (F0 m x.handlerPc ls [.ref q])) : vx_W p l e R s m args below meth c H locs cells slots Q (F0 m pc ls rest) q := by
  intro T hT X
  obtain ⟨vm', X', st⟩ := X.thenCaughtThrough q (g := F0 m pc ls rest) rfl (Steps.refl _) (by rw [hT]; exact hcell) (by rw [hv]; rfl) (by obtain ⟨k9, h9, -⟩ := Vm.findClass_spec hcl; exact ⟨k9, h9⟩) [] x suf hsplit
    (fun z hz => nomatch hz) hx (Or.inl h0)
  obtain ⟨t, a1, b1⟩ := kk (T.setVm vm') hT X'
  exact ⟨t, st.trans a1, b1⟩
end Fin
theorem cls_ne {vm : Vm} {a b : String} {ca cb : ClassId} (ha : vm.findClass a = some ca) (hb : vm.findClass b = some cb) (hab : a ≠ b) : ca ≠ cb := by
  intro z
  subst z
  obtain ⟨k1, a1, b1⟩ := Vm.findClass_spec ha
  obtain ⟨k2, a2, b2⟩ := Vm.findClass_spec hb
  cases a1.symm.trans a2
  exact hab (b1.symm.trans b2)
/-- the reader's handler: fault is set, the exception is thrown again -/
theorem orders_fin {G : aG} {p : Program} {l : Launch} {e : Env} {s : State} {m : MethodId} {args : Array Value} {below : List Frame} {meth : Method} {c : Code} {A : Nat → Prop} {rt : Option FieldType} {pc k : Nat} {h0 : AH} {n0 u0 K : Nat} {E : Nat → Prop} {σ : OS} {Qc : Array Value → State → Outcome → State → Prop} {X : Nat → OS → Prop}
    (C : Cx G p l s m args meth c A yX8_orders cX8_orders 4 rt) (hs : s.heap.size = n0 ∧ slT s.heap = u0) (ht : c.exceptionTable.toList = tableOf [(10, 63, 82, 0)]) (hpc : 10 ≤ pc ∧ pc < 63) {a : Nat} {x1 x3 : Option Value} {fs : List Value} {atv : Int32} (hx1 : a_c1 x1 = true) (hfs : σ.1 a = some (.inr (6, fs))) (hat : fs[0]? = some (.int atv)) (hk1 : 1 < fs.length) (hX : X 3 (oXs (oPut σ a (.inr (6, fs.set 1 (.int atv)))) 0)) :
    AX G p l e (aRm k K (10 * K)) s m args below meth c A 4 (vx_MQ below Qc (a_XC G (o_px X h0 E) A) args s K (10 * K) A) (OW h0 n0 u0 E K σ) pc [some (.ref a), x1, some (.int 0), x3] "MaltDrums$Misspelled" := by
  intro h n u hV H locs ls hz hu hR hA hS hl ce q rest h1 h2 h3
  have hcls : ce.cls ≠ G.1.1 6 := cls_ne h3 (C.K.1.1 6 (RX8, TX8, 3) rfl).2.1 (by decide)
  have key : AWP q ce G p l e (aRm k K (10 * K)) s m args below meth c A 4 (vx_MQ below Qc (a_XC G (o_px X h0 E) A) args s K (10 * K) A) (OW h0 n0 u0 E K σ) 82 [some (.ref a), x1, some (.int 0), x3] [.ref q] := by
    refine ap_astore_3 (pc := 82) C dX8_orders_82 (by decide) rfl ?_
    refine ap_aload_0 (pc := 83) C dX8_orders_83 ?_
    refine ap_iload_2 (pc := 84) C dX8_orders_84 ?_
    refine ap_if_eq (pc := 85) C 92 dX8_orders_85 (by decide) (fun _ => ?_) (fun z => absurd rfl z)
    refine ap_aload_0 (pc := 92) C dX8_orders_92 ?_
    refine ap_getf (pc := 93) C (ref := "MaltDrums$Reader") (v := .int atv) in_X8 (ci := 6) rfl 0 (by decide) q675 rfl (fun h n u hV => o_fld ⟨fs, hfs, hat⟩ hV) dX8_orders_93 ?_
    refine ap_putf (pc := 96) C (ref := "MaltDrums$Reader") (V1 := OW h0 n0 u0 E K (oPut σ a (.inr (6, fs.set 1 (.int atv))))) hcls in_X8 tyX8 tyX8_ok nmX8 (ci := 6) rfl 1 (by decide) q676 rfl rfl rfl rfl (fun h n u hV => o_put (by decide) hfs hk1 hV) dX8_orders_96 ?_
    refine ap_aload_3 (pc := 99) C dX8_orders_99 ?_
    intro h n u hV H locs ls hz hu hR hA hS hl hp
    exact vx_athrow C.exec C.2.1 dX8_orders_100 (ax_out (V := OW h0 n0 u0 E K (oPut σ a (.inr (6, fs.set 1 (.int atv))))) (E := "MaltDrums$Misspelled") C (by rw [ht]; decide) (fun h n u hV => ⟨⟨3, _, rfl, hX, hV.1.same rfl rfl rfl, hV.2.2.2.2.2.1⟩, o_end hs hV⟩) h n u hV H locs ls hz hu hR hA hS hl ce q [] hp h2 h3)
  exact vx_catchAny ⟨10, 63, 82, 0⟩ [] ht (by show (decide (10 ≤ pc) && decide (pc < 63)) = true; simp [hpc.1, hpc.2]) rfl h1 h2 h3 (key h n u hV H locs ls hz hu hR hA hS hl h1)
