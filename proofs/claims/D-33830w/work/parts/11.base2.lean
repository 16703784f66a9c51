set_option maxRecDepth 100000
/-! BASE 2: rows of the heap; contracts; calls -/
theorem Cx.exec {G : aG} {p : Program} {l : Launch} {s : State} {m : MethodId} {args : Array Value} {meth : Method} {c : Code} {A : Nat → Prop} {y : MethodName} {cc : ByteArray} {nL : Nat} {rt : Option FieldType} (C : Cx G p l s m args meth c A y cc nL rt) : p.tables.exec = Jvm.exec := C.1
theorem Cx.maxL {G : aG} {p : Program} {l : Launch} {s : State} {m : MethodId} {args : Array Value} {meth : Method} {c : Code} {A : Nat → Prop} {y : MethodName} {cc : ByteArray} {nL : Nat} {rt : Option FieldType} (C : Cx G p l s m args meth c A y cc nL rt) : c.maxLocals = nL := C.2.2.1
theorem Cx.own {G : aG} {p : Program} {l : Launch} {s : State} {m : MethodId} {args : Array Value} {meth : Method} {c : Code} {A : Nat → Prop} {y : MethodName} {cc : ByteArray} {nL : Nat} {rt : Option FieldType} (C : Cx G p l s m args meth c A y cc nL rt) : s.vm.findClass y.cls = some m.cls := C.2.2.2.1
theorem Cx.ts {G : aG} {p : Program} {l : Launch} {s : State} {m : MethodId} {args : Array Value} {meth : Method} {c : Code} {A : Nat → Prop} {y : MethodName} {cc : ByteArray} {nL : Nat} {rt : Option FieldType} (C : Cx G p l s m args meth c A y cc nL rt) : ∀ w ∈ lw_all, w.before args s = true := C.2.2.2.2.1
theorem Cx.locks {G : aG} {p : Program} {l : Launch} {s : State} {m : MethodId} {args : Array Value} {meth : Method} {c : Code} {A : Nat → Prop} {y : MethodName} {cc : ByteArray} {nL : Nat} {rt : Option FieldType} (C : Cx G p l s m args meth c A y cc nL rt) : meth.locks = false := C.2.2.2.2.2.1
theorem Cx.ret {G : aG} {p : Program} {l : Launch} {s : State} {m : MethodId} {args : Array Value} {meth : Method} {c : Code} {A : Nat → Prop} {y : MethodName} {cc : ByteArray} {nL : Nat} {rt : Option FieldType} (C : Cx G p l s m args meth c A y cc nL rt) : meth.sig.returnType = rt := C.2.2.2.2.2.2.1
theorem Cx.K {G : aG} {p : Program} {l : Launch} {s : State} {m : MethodId} {args : Array Value} {meth : Method} {c : Code} {A : Nat → Prop} {y : MethodName} {cc : ByteArray} {nL : Nat} {rt : Option FieldType} (C : Cx G p l s m args meth c A y cc nL rt) : aK G s := C.2.2.2.2.2.2.2.1
theorem Cx.hA {G : aG} {p : Program} {l : Launch} {s : State} {m : MethodId} {args : Array Value} {meth : Method} {c : Code} {A : Nat → Prop} {y : MethodName} {cc : ByteArray} {nL : Nat} {rt : Option FieldType} (C : Cx G p l s m args meth c A y cc nL rt) : ∀ q, s.heap.size ≤ q → A q := C.2.2.2.2.2.2.2.2.1
theorem Cx.SC {G : aG} {p : Program} {l : Launch} {s : State} {m : MethodId} {args : Array Value} {meth : Method} {c : Code} {A : Nat → Prop} {y : MethodName} {cc : ByteArray} {nL : Nat} {rt : Option FieldType} (C : Cx G p l s m args meth c A y cc nL rt) : aSC G A s s.heap := C.2.2.2.2.2.2.2.2.2.1
theorem Cx.nm {G : aG} {p : Program} {l : Launch} {s : State} {m : MethodId} {args : Array Value} {meth : Method} {c : Code} {A : Nat → Prop} {y : MethodName} {cc : ByteArray} {nL : Nat} {rt : Option FieldType} (C : Cx G p l s m args meth c A y cc nL rt) : meth.name = y.name := C.2.2.2.2.2.2.2.2.2.2.1
theorem Cx.fl {G : aG} {p : Program} {l : Launch} {s : State} {m : MethodId} {args : Array Value} {meth : Method} {c : Code} {A : Nat → Prop} {y : MethodName} {cc : ByteArray} {nL : Nat} {rt : Option FieldType} (C : Cx G p l s m args meth c A y cc nL rt) : l.flags = flags0 := C.2.2.2.2.2.2.2.2.2.2.2
abbrev aIs (h0 : AH) (n0 u0 : Nat) : aWd := fun h n u => h = h0 ∧ n = n0 ∧ u = u0
section AHeap
variable {G : aG} {p : Program} {l : Launch} {e : Env} {R : Room} {s : State} {m : MethodId} {args : Array Value} {below : List Frame} {meth : Method} {c : Code} {A : Nat → Prop} {y : MethodName} {cc : ByteArray} {nL : Nat} {rt : Option FieldType} {Q : State → Prop} {V V1 : aWd} {pc : Nat} {L : List (Option Value)} {st : List Value}
/-- behind a store at a -/
theorem a_after {h : AH} {n u : Nat} {H H1 : Heap} {locs : List Loc} {ls : Array Slot} {a j cells slots : Nat} {e0 E : aE} {x z : Cell} (hz : H.size = n) (hu : slT H = u) (hR : a_R G h H) (hA : ∀ a e, h a = some e → A a) (hS : va_S A s.heap H locs) (hl : lv_has ls nL (a_L 0 L)) (ha : h a = some e0) (hV1 : V1 (a_up h a E) n u) (h0 : H[a]? = some x) (h1 : H1[a]? = some z) (hs : z.slots.size = x.slots.size) (he : va_at G.1 aCl (a, cv G E) H1) (z1 : H1.size = H.size) (oq : ∀ q : Nat, q ≠ a → H1[q]? = H[q]?) (k : AW G p l e R s m args below meth c A nL Q V1 pc L st) : W p l e R s m args below meth c H1 (locs ++ [⟨a, j⟩]) cells slots Q (F0 m pc ls st) := by
  have hu1 : slT H1 = u := (slT_put h0 h1 hs oq).trans hu
  refine W_tight ?_
  rw [z1, hz, hu1]
  exact k _ n u hV1 H1 _ ls (z1.trans hz) hu1 (hR.put he oq) (fun q f hq => by
    by_cases w : q = a
    · rw [w]; exact hA a e0 ha
    · rw [a_up_ne w] at hq; exact hA q f hq) (hS.put z1 oq (hA a e0 ha)) hl
theorem a_getf (C : Cx G p l s m args meth c A y cc nL rt) {ref C0 : String} {T : u_T} {N ci index a : Nat} {v : Value} (hin : ∀ w ∈ u_ws C0 T N, w ∈ lw_all) (hc : aCl[ci]? = some (C0, T, N)) (k : Nat) (hk : k < N) (hlink : Cond.fieldLink y.cls index ref (T k).2.1 (T k).2.2.1 ∈ lw_all) (hsame : ref = (T k).1) (hv : ∀ h n u, V h n u → ∃ fs, h a = some (.inr (ci, fs)) ∧ fs[k]? = some v) (d : decode cc pc = .ok (.getfield index, 3)) (kk : AW G p l e R s m args below meth c A nL Q V (pc + 3) L (v :: st)) : AW G p l e R s m args below meth c A nL Q V pc L (.ref a :: st) := by
  intro h n u hV H locs ls hz hu hR hA hS hl
  obtain ⟨fs, e1, e2⟩ := hv h n u hV
  exact va_get C.exec C.2.1 C.ts hin C.own C.K.1 (hR.one e1) 0 rfl hc k hk (C.ts _ hlink) (by subst hsame; exact fun _ h => h) e2 d (kk h n u hV H locs ls hz hu hR hA hS hl)
theorem a_getfN (C : Cx G p l s m args meth c A y cc nL rt) {ref C0 host : String} {T : u_T} {N ci index a : Nat} {v : Value} (hin : ∀ w ∈ u_ws C0 T N, w ∈ lw_all) (hc : aCl[ci]? = some (C0, T, N)) (k : Nat) (hk : k < N) (hlink : Cond.fieldLinkNest y.cls index ref (T k).2.1 (T k).2.2.1 host ∈ lw_tbl) (hsame : ref = (T k).1) (hv : ∀ h n u, V h n u → ∃ fs, h a = some (.inr (ci, fs)) ∧ fs[k]? = some v) (d : decode cc pc = .ok (.getfield index, 3)) (kk : AW G p l e R s m args below meth c A nL Q V (pc + 3) L (v :: st)) : AW G p l e R s m args below meth c A nL Q V pc L (.ref a :: st) := by
  intro h n u hV H locs ls hz hu hR hA hS hl
  obtain ⟨fs, e1, e2⟩ := hv h n u hV
  exact va_getN C.exec C.2.1 C.ts hin C.own C.K.1 (hR.one e1) 0 rfl hc k hk (va_Nw.use rfl (C.K.2.1 _ hlink rfl)) (by subst hsame; exact fun _ h => h) e2 d (kk h n u hV H locs ls hz hu hR hA hS hl)
theorem a_putf (C : Cx G p l s m args meth c A y cc nL rt) {ref C0 : String} {T : u_T} {N ci index a : Nat} {v : Value} (hin : ∀ w ∈ u_ws C0 T N, w ∈ lw_all) (ty0 : Nat → FieldType) (hty : ∀ k, k < N → parseFieldDescriptor (T k).2.2.1 = some (ty0 k)) (hnm : ∀ a, a < N → ∀ b, b < N → a ≠ b → (T a).2.1 ≠ (T b).2.1) (hc : aCl[ci]? = some (C0, T, N)) (k : Nat) (hk : k < N) (hlink : Cond.fieldLink y.cls index ref (T k).2.1 (T k).2.2.1 ∈ lw_all) (hsame : ref = (T k).1) (hfin : (T k).2.2.2 = false) (hn : narrow (ty0 k) v = v) (hfit : fits (ty0 k) v = true) (hv : ∀ h n u, V h n u → ∃ fs, h a = some (.inr (ci, fs)) ∧ k < fs.length ∧ V1 (a_up h a (.inr (ci, fs.set k v))) n u) (d : decode cc pc = .ok (.putfield index, 3)) (kk : AW G p l e R s m args below meth c A nL Q V1 (pc + 3) L st) : AW G p l e R s m args below meth c A nL Q V pc L (v :: .ref a :: st) := by
  intro h n u hV H locs ls hz hu hR hA hS hl
  obtain ⟨fs, e1, e2, e3⟩ := hv h n u hV
  have hap := va_apart (own := y.cls) C.ts hin ty0 hty hnm C.K.1 hc
  obtain ⟨r, h1, cell, q1, q2, q3, q4⟩ := hR a _ e1
  have hr : r = (C0, T, N) := Option.some.inj (h1.symm.trans hc)
  subst hr
  obtain ⟨hSl, hfc, kC, hkC, hkind⟩ := C.K.1.1 ci _ hc
  obtain ⟨cf, kf, fi, f, hi, hsl⟩ := hSl k hk
  have hlay := C.ts _ (hin _ (u_in_lay hk))
  unfold u_lay at hlay
  rw [if_neg (by rw [hfin]; decide)] at hlay
  have hst := (u_facts hfc hkC (u_lays C.ts hin hk) hi).1
  have h6 := u_store hfc hkC hkind hlay hi (hty k hk) hn hfit
  refine W.putK C.exec C.2.1 (f := f) ⟨C.own, C.ts _ hlink, ⟨_, _, _, (by subst hsame; exact hi)⟩, hst⟩ (by rw [q2]; exact h6) q1 q3 (by rw [hsl]; exact k2_hasslot (q4 k hk)) rfl rfl d fun H1 g1 g2 g3 => ?_
  rw [hsl] at g1 ⊢
  exact a_after (V1 := V1) hz hu hR hA hS hl e1 e3 q1 g1 (a_setSlot_size _ _ _) ⟨_, hc, t_OB.to (V := updV (vp_V fs) k v) ⟨_, g1, q2, q3, t_set q4 hap hk v⟩ (fun j _ => vp_updV_set e2 v j)⟩ g2 g3 kk
theorem a_putfN (C : Cx G p l s m args meth c A y cc nL rt) {ref C0 host : String} {T : u_T} {N ci index a : Nat} {v : Value} (hin : ∀ w ∈ u_ws C0 T N, w ∈ lw_all) (ty0 : Nat → FieldType) (hty : ∀ k, k < N → parseFieldDescriptor (T k).2.2.1 = some (ty0 k)) (hnm : ∀ a, a < N → ∀ b, b < N → a ≠ b → (T a).2.1 ≠ (T b).2.1) (hc : aCl[ci]? = some (C0, T, N)) (k : Nat) (hk : k < N) (hlink : Cond.fieldLinkNest y.cls index ref (T k).2.1 (T k).2.2.1 host ∈ lw_tbl) (hsame : ref = (T k).1) (hfin : (T k).2.2.2 = false) (hn : narrow (ty0 k) v = v) (hfit : fits (ty0 k) v = true) (hv : ∀ h n u, V h n u → ∃ fs, h a = some (.inr (ci, fs)) ∧ k < fs.length ∧ V1 (a_up h a (.inr (ci, fs.set k v))) n u) (d : decode cc pc = .ok (.putfield index, 3)) (kk : AW G p l e R s m args below meth c A nL Q V1 (pc + 3) L st) : AW G p l e R s m args below meth c A nL Q V pc L (v :: .ref a :: st) := by
  intro h n u hV H locs ls hz hu hR hA hS hl
  obtain ⟨fs, e1, e2, e3⟩ := hv h n u hV
  have hap := va_apart (own := y.cls) C.ts hin ty0 hty hnm C.K.1 hc
  obtain ⟨r, h1, cell, q1, q2, q3, q4⟩ := hR a _ e1
  have hr : r = (C0, T, N) := Option.some.inj (h1.symm.trans hc)
  subst hr
  obtain ⟨hSl, hfc, kC, hkC, hkind⟩ := C.K.1.1 ci _ hc
  obtain ⟨cf, kf, fi, f, hi, hsl⟩ := hSl k hk
  have hlay := C.ts _ (hin _ (u_in_lay hk))
  unfold u_lay at hlay
  rw [if_neg (by rw [hfin]; decide)] at hlay
  have hst := (u_facts hfc hkC (u_lays C.ts hin hk) hi).1
  have h6 := u_store hfc hkC hkind hlay hi (hty k hk) hn hfit
  refine va_WputK C.exec C.2.1 (f := f) C.own (va_Nw.use rfl (C.K.2.1 _ hlink rfl)) (by subst hsame; exact hi) hst (by rw [q2]; exact h6) q1 q3 (by rw [hsl]; exact k2_hasslot (q4 k hk)) rfl rfl d fun H1 g1 g2 g3 => ?_
  rw [hsl] at g1 ⊢
  exact a_after (V1 := V1) hz hu hR hA hS hl e1 e3 q1 g1 (a_setSlot_size _ _ _) ⟨_, hc, t_OB.to (V := updV (vp_V fs) k v) ⟨_, g1, q2, q3, t_set q4 hap hk v⟩ (fun j _ => vp_updV_set e2 v j)⟩ g2 g3 kk
theorem a_putfF (C : Cx G p l s m args meth c A y cc nL rt) {ref C0 : String} {T : u_T} {N ci index a : Nat} {v : Value} (hin : ∀ w ∈ u_ws C0 T N, w ∈ lw_all) (ty0 : Nat → FieldType) (hty : ∀ k, k < N → parseFieldDescriptor (T k).2.2.1 = some (ty0 k)) (hnm : ∀ a, a < N → ∀ b, b < N → a ≠ b → (T a).2.1 ≠ (T b).2.1) (hc : aCl[ci]? = some (C0, T, N)) (k : Nat) (hk : k < N) (hlink : Cond.fieldLink y.cls index ref (T k).2.1 (T k).2.2.1 ∈ lw_all) (hsame : ref = (T k).1) (hfin : (T k).2.2.2 = true) (hin2 : y.name = "<init>") (hdecl : (T k).1 = y.cls) (hn : narrow (ty0 k) v = v) (hfit : fits (ty0 k) v = true) (hv : ∀ h n u, V h n u → ∃ fs, h a = some (.inr (ci, fs)) ∧ k < fs.length ∧ V1 (a_up h a (.inr (ci, fs.set k v))) n u) (d : decode cc pc = .ok (.putfield index, 3)) (kk : AW G p l e R s m args below meth c A nL Q V1 (pc + 3) L st) : AW G p l e R s m args below meth c A nL Q V pc L (v :: .ref a :: st) := by
  intro h n u hV H locs ls hz hu hR hA hS hl
  obtain ⟨fs, e1, e2, e3⟩ := hv h n u hV
  have hap := va_apart (own := y.cls) C.ts hin ty0 hty hnm C.K.1 hc
  obtain ⟨r, h1, cell, q1, q2, q3, q4⟩ := hR a _ e1
  have hr : r = (C0, T, N) := Option.some.inj (h1.symm.trans hc)
  subst hr
  obtain ⟨hSl, hfc, kC, hkC, hkind⟩ := C.K.1.1 ci _ hc
  obtain ⟨cf, kf, fi, f, hi, hsl⟩ := hSl k hk
  have hlay := C.ts _ (hin _ (u_in_lay hk))
  unfold u_lay at hlay
  rw [if_pos hfin] at hlay
  have hst := (u_facts hfc hkC (u_lays C.ts hin hk) hi).1
  have hcf : m.cls = cf := by
    obtain ⟨_, _, c', _, _, _, -, -, hf', -, -, -, hown2, -⟩ := Cond.laysFinal_spec hlay
    have e1 : c' = cf := by have := hi.symm.trans hf'; simp at this; exact this.1.symm
    rw [hdecl] at hown2
    rw [← e1]; exact Option.some.inj (C.own.symm.trans hown2)
  have h6 := u_fits hfc hkC hkind (Or.inr hlay) hi (hty k hk) hn hfit
  refine W.putFinK C.exec C.2.1 C.own (C.ts _ hlink) (by subst hsame; exact hi) hst hcf (C.nm.trans hin2) (by rw [q2]; exact h6) q1 q3 (by rw [hsl]; exact k2_hasslot (q4 k hk)) rfl rfl d fun H1 g1 g2 g3 => ?_
  rw [hsl] at g1 ⊢
  exact a_after (V1 := V1) hz hu hR hA hS hl e1 e3 q1 g1 (a_setSlot_size _ _ _) ⟨_, hc, t_OB.to (V := updV (vp_V fs) k v) ⟨_, g1, q2, q3, t_set q4 hap hk v⟩ (fun j _ => vp_updV_set e2 v j)⟩ g2 g3 kk
theorem a_iald (C : Cx G p l s m args meth c A y cc nL rt) {i : Int32} {n0 a : Nat} {f : Nat → Int32} (hv : ∀ h n u, V h n u → h a = some (.inl (0, n0, .inl f))) (hin : vp_in i n0) (d : decode cc pc = .ok (.iaload, 1)) (kk : AW G p l e R s m args below meth c A nL Q V (pc + 1) L (.int (f i.toNatClampNeg) :: st)) : AW G p l e R s m args below meth c A nL Q V pc L (.int i :: .ref a :: st) :=
  fun h n u hV H locs ls hz hu hR hA hS hl => va_iald C.exec C.2.1 C.K.1 (hR.one (hv h n u hV)) 0 0 rfl rfl hin d (kk h n u hV H locs ls hz hu hR hA hS hl)
theorem a_lald (C : Cx G p l s m args meth c A y cc nL rt) {i : Int32} {n0 a : Nat} {f : Nat → Int64} (hv : ∀ h n u, V h n u → h a = some (.inl (1, n0, .inr (.inl f)))) (hin : vp_in i n0) (d : decode cc pc = .ok (.laload, 1)) (kk : AW G p l e R s m args below meth c A nL Q V (pc + 1) L (.long (f i.toNatClampNeg) :: st)) : AW G p l e R s m args below meth c A nL Q V pc L (.int i :: .ref a :: st) :=
  fun h n u hV H locs ls hz hu hR hA hS hl => va_lald C.exec C.2.1 C.K.1 (hR.one (hv h n u hV)) 0 1 rfl rfl hin d (kk h n u hV H locs ls hz hu hR hA hS hl)
theorem a_bald (C : Cx G p l s m args meth c A y cc nL rt) {i : Int32} {n0 a : Nat} {f : Nat → Int32} (hv : ∀ h n u, V h n u → h a = some (.inl (2, n0, .inl f))) (hin : vp_in i n0) (d : decode cc pc = .ok (.baload, 1)) (kk : AW G p l e R s m args below meth c A nL Q V (pc + 1) L (.int (f i.toNatClampNeg) :: st)) : AW G p l e R s m args below meth c A nL Q V pc L (.int i :: .ref a :: st) :=
  fun h n u hV H locs ls hz hu hR hA hS hl => va_bald C.exec C.2.1 C.K.1 (hR.one (hv h n u hV)) 0 2 rfl rfl hin d (kk h n u hV H locs ls hz hu hR hA hS hl)
theorem a_aaldO (C : Cx G p l s m args meth c A y cc nL rt) {i : Int32} {n0 a : Nat} {f : Nat → Option Nat} (hv : ∀ h n u, V h n u → h a = some (.inl (3, n0, .inr (.inr (.inr (.inr f)))))) (hin : vp_in i n0) (d : decode cc pc = .ok (.aaload, 1)) (kk : AW G p l e R s m args below meth c A nL Q V (pc + 1) L (va_rf (f i.toNatClampNeg) :: st)) : AW G p l e R s m args below meth c A nL Q V pc L (.int i :: .ref a :: st) :=
  fun h n u hV H locs ls hz hu hR hA hS hl => va_aldq C.exec C.2.1 C.K.1 (hR.one (hv h n u hV)) 0 3 rfl rfl hin d (kk h n u hV H locs ls hz hu hR hA hS hl)
theorem a_aaldD (C : Cx G p l s m args meth c A y cc nL rt) {i : Int32} {n0 a : Nat} {f : Nat → Option Nat} (hv : ∀ h n u, V h n u → h a = some (.inl (4, n0, .inr (.inr (.inr (.inr f)))))) (hin : vp_in i n0) (d : decode cc pc = .ok (.aaload, 1)) (kk : AW G p l e R s m args below meth c A nL Q V (pc + 1) L (va_rf (f i.toNatClampNeg) :: st)) : AW G p l e R s m args below meth c A nL Q V pc L (.int i :: .ref a :: st) :=
  fun h n u hV H locs ls hz hu hR hA hS hl => va_aldq C.exec C.2.1 C.K.1 (hR.one (hv h n u hV)) 0 4 rfl rfl hin d (kk h n u hV H locs ls hz hu hR hA hS hl)
theorem a_alen (C : Cx G p l s m args meth c A y cc nL rt) {a kd : Nat} {x : vp_A} {ty : FieldType} (hv : ∀ h n u, V h n u → h a = some (.inl (kd, x))) (ht : ∀ G : aG, (aTys G)[kd]? = some (G.2.1 kd, ty)) {v : Int32} (hn : Int32.ofNat x.1 = v) (d : decode cc pc = .ok (.arraylength, 1)) (kk : AW G p l e R s m args below meth c A nL Q V (pc + 1) L (.int v :: st)) : AW G p l e R s m args below meth c A nL Q V pc L (.ref a :: st) :=
  fun h n u hV H locs ls hz hu hR hA hS hl => va_alen C.exec C.2.1 C.K.1 (hR.one (hv h n u hV)) 0 kd rfl (ht G) hn d (kk h n u hV H locs ls hz hu hR hA hS hl)
theorem a_iast (C : Cx G p l s m args meth c A y cc nL rt) {i : Int32} {x : Int32} {n0 a : Nat} {f : Nat → Int32} (hv : ∀ h n u, V h n u → h a = some (.inl (0, n0, .inl f)) ∧ V1 (a_up h a (.inl (0, n0, .inl (upd f i.toNatClampNeg x)))) n u) (hin : vp_in i n0) (d : decode cc pc = .ok (.iastore, 1)) (kk : AW G p l e R s m args below meth c A nL Q V1 (pc + 1) L st) : AW G p l e R s m args below meth c A nL Q V pc L (.int x :: .int i :: .ref a :: st) := by
  intro h n u hV H locs ls hz hu hR hA hS hl
  obtain ⟨e1, e3⟩ := hv h n u hV
  have hP := hR a _ e1
  refine W.iast C.exec C.2.1 hP ((C.K.1.2 0 _ rfl).1 n0 (fun j => .int (f j))) (fun q => by cases q) (by show ¬ (i < 0 ∨ (arrV _ _ _).slots.size ≤ _); rw [arrV_size]; exact hin) rfl rfl d fun H1 g1 g2 g3 => ?_
  refine a_after (V1 := V1) hz hu hR hA hS hl e1 e3 hP g1 (a_setSlot_size _ _ _) ?_ g2 g3 kk
  show H1[a]? = some (vp_cell _ _)
  rw [g1]
  rw [vp_cell_i, vp_cell_i, arrV_store]
  congr 2
  funext q
  by_cases hq : q = i.toNatClampNeg
  · subst hq
    simp [updV, upd]
  · simp [updV, upd, hq]
theorem a_last (C : Cx G p l s m args meth c A y cc nL rt) {i : Int32} {x : Int64} {n0 a : Nat} {f : Nat → Int64} (hv : ∀ h n u, V h n u → h a = some (.inl (1, n0, .inr (.inl f))) ∧ V1 (a_up h a (.inl (1, n0, .inr (.inl (vp_updL f i.toNatClampNeg x))))) n u) (hin : vp_in i n0) (d : decode cc pc = .ok (.lastore, 1)) (kk : AW G p l e R s m args below meth c A nL Q V1 (pc + 1) L st) : AW G p l e R s m args below meth c A nL Q V pc L (.long x :: .int i :: .ref a :: st) := by
  intro h n u hV H locs ls hz hu hR hA hS hl
  obtain ⟨e1, e3⟩ := hv h n u hV
  have hP := hR a _ e1
  refine W.last C.exec C.2.1 hP ((C.K.1.2 1 _ rfl).1 n0 (fun j => .long (f j))) (fun q => by cases q) (by show ¬ (i < 0 ∨ (arrV _ _ _).slots.size ≤ _); rw [arrV_size]; exact hin) rfl rfl d fun H1 g1 g2 g3 => ?_
  refine a_after (V1 := V1) hz hu hR hA hS hl e1 e3 hP g1 (a_setSlot_size _ _ _) ?_ g2 g3 kk
  show H1[a]? = some (vp_cell _ _)
  rw [g1]
  rw [vp_cell_l, vp_cell_l, arrV_store]
  congr 2
  funext q
  by_cases hq : q = i.toNatClampNeg
  · subst hq
    simp [updV, vp_updL]
  · simp [updV, vp_updL, hq]
theorem a_bast (C : Cx G p l s m args meth c A y cc nL rt) {i : Int32} {x : Int32} {n0 a : Nat} {f : Nat → Int32} (hv : ∀ h n u, V h n u → h a = some (.inl (2, n0, .inl f)) ∧ V1 (a_up h a (.inl (2, n0, .inl (upd f i.toNatClampNeg x.toInt8.toInt32)))) n u) (hin : vp_in i n0) (d : decode cc pc = .ok (.bastore, 1)) (kk : AW G p l e R s m args below meth c A nL Q V1 (pc + 1) L st) : AW G p l e R s m args below meth c A nL Q V pc L (.int x :: .int i :: .ref a :: st) := by
  intro h n u hV H locs ls hz hu hR hA hS hl
  obtain ⟨e1, e3⟩ := hv h n u hV
  have hP := hR a _ e1
  refine W.bast C.exec C.2.1 hP ((C.K.1.2 2 _ rfl).1 n0 (fun j => .int (f j))) (fun q => by cases q) (by show ¬ (i < 0 ∨ (arrV _ _ _).slots.size ≤ _); rw [arrV_size]; exact hin) rfl rfl d fun H1 g1 g2 g3 => ?_
  refine a_after (V1 := V1) hz hu hR hA hS hl e1 e3 hP g1 (a_setSlot_size _ _ _) ?_ g2 g3 kk
  show H1[a]? = some (vp_cell _ _)
  rw [g1]
  rw [vp_cell_i, vp_cell_i, arrV_store]
  congr 2
  funext q
  by_cases hq : q = i.toNatClampNeg
  · subst hq
    simp [updV, upd, narrow]
  · simp [updV, upd, hq]
theorem a_aastD (C : Cx G p l s m args meth c A y cc nL rt) {i : Int32} {n0 a b : Nat} {f : Nat → Option Nat} (hv : ∀ h n u, V h n u → h a = some (.inl (4, n0, .inr (.inr (.inr (.inr f))))) ∧ (∃ fs, h b = some (.inr (3, fs))) ∧ V1 (a_up h a (.inl (4, n0, .inr (.inr (.inr (.inr (va_up f i.toNatClampNeg (some b)))))))) n u) (hin : vp_in i n0) (d : decode cc pc = .ok (.aastore, 1)) (kk : AW G p l e R s m args below meth c A nL Q V1 (pc + 1) L st) : AW G p l e R s m args below meth c A nL Q V pc L (.ref b :: .int i :: .ref a :: st) := by
  intro h n u hV H locs ls hz hu hR hA hS hl
  obtain ⟨e1, ⟨fs, e2⟩, e3⟩ := hv h n u hV
  have hP := hR a _ e1
  have hlt : i.toNatClampNeg < n0 := Nat.not_le.mp fun q => hin (Or.inr q)
  have h0 : ¬ i < 0 := fun q => hin (Or.inl q)
  obtain ⟨r', hr', cellV, g1, g2, g3, -⟩ := hR b _ e2
  have hcls := (C.K.1.1 3 _ rfl).2
  obtain ⟨kA, comp, k1, k2, k3, -⟩ := (C.K.1.2 4 _ rfl).2
  have hcomp : comp = G.1.1 3 := Option.some.inj (k3.symm.trans hcls.1)
  subst hcomp
  obtain ⟨kC, hkC, -⟩ := hcls.2
  refine W.aast C.exec C.2.1 hP (fun q h => by cases h) (fun h => by cases h) k1 k2 rfl hkC ⟨h0, by show _ < (arrV _ _ _).slots.size; rw [arrV_size]; exact hlt⟩ g1 (fun q h => by rw [g3] at h; cases h) (by rw [g2]; exact hkC) (by rw [g2]; exact va_assign hcls) rfl rfl d fun H1 f1 f2 f3 => ?_
  refine a_after (V1 := V1) hz hu hR hA hS hl e1 e3 hP f1 (a_setSlot_size _ _ _) ?_ f2 f3 kk
  show H1[a]? = some (vp_cell _ _)
  rw [f1]
  rw [vp_cell_q, vp_cell_q, arrV_store]
  congr 2
  funext q
  by_cases hq : q = i.toNatClampNeg
  · subst hq
    simp [updV, va_up, va_rf]
  · simp [updV, va_up, hq]
theorem a_aastO (C : Cx G p l s m args meth c A y cc nL rt) {i : Int32} {n0 a b ci : Nat} {r : vw_C} {f : Nat → Option Nat} (hc : aCl[ci]? = some r) (hca : Cond.castable r.1 "java/lang/Object" ∈ lw_tbl) (hv : ∀ h n u, V h n u → h a = some (.inl (3, n0, .inr (.inr (.inr (.inr f))))) ∧ (∃ fs, h b = some (.inr (ci, fs))) ∧ V1 (a_up h a (.inl (3, n0, .inr (.inr (.inr (.inr (va_up f i.toNatClampNeg (some b)))))))) n u) (hin : vp_in i n0) (d : decode cc pc = .ok (.aastore, 1)) (kk : AW G p l e R s m args below meth c A nL Q V1 (pc + 1) L st) : AW G p l e R s m args below meth c A nL Q V pc L (.ref b :: .int i :: .ref a :: st) := by
  intro h n u hV H locs ls hz hu hR hA hS hl
  obtain ⟨e1, ⟨fs, e2⟩, e3⟩ := hv h n u hV
  have hP := hR a _ e1
  have hlt : i.toNatClampNeg < n0 := Nat.not_le.mp fun q => hin (Or.inr q)
  have h0 : ¬ i < 0 := fun q => hin (Or.inl q)
  obtain ⟨r', hr', cellV, g1, g2, g3, -⟩ := hR b _ e2
  have hcls := (C.K.1.1 ci r hc).2
  obtain ⟨kA, comp, k1, k2, k3, -⟩ := (C.K.1.2 3 _ rfl).2
  obtain ⟨kE, hkE, -⟩ := Vm.findClass_spec k3
  obtain ⟨c0, t1, f1, f2, f3⟩ := Cond.castable_spec (va_Nw.use (A := args) rfl (C.K.2.1 _ hca rfl))
  cases hcls.1.symm.trans f1
  cases k3.symm.trans f2
  obtain ⟨kC, hkC, -⟩ := hcls.2
  refine W.aast C.exec C.2.1 hP (fun q h => by cases h) (fun h => by cases h) k1 k2 rfl hkE ⟨h0, by show _ < (arrV _ _ _).slots.size; rw [arrV_size]; exact hlt⟩ g1 (fun q h => by rw [g3] at h; cases h) (by rw [g2]; exact hkC) (by rw [g2]; exact f3) rfl rfl d fun H1 x1 x2 x3 => ?_
  refine a_after (V1 := V1) hz hu hR hA hS hl e1 e3 hP x1 (a_setSlot_size _ _ _) ?_ x2 x3 kk
  show H1[a]? = some (vp_cell _ _)
  rw [x1]
  rw [vp_cell_q, vp_cell_q, arrV_store]
  congr 2
  funext q
  by_cases hq : q = i.toNatClampNeg
  · subst hq
    simp [updV, va_up, va_rf]
  · simp [updV, va_up, hq]
theorem a_aastN (C : Cx G p l s m args meth c A y cc nL rt) {i : Int32} {n0 a : Nat} {f : Nat → Option Nat} (hv : ∀ h n u, V h n u → h a = some (.inl (3, n0, .inr (.inr (.inr (.inr f))))) ∧ V1 (a_up h a (.inl (3, n0, .inr (.inr (.inr (.inr (va_up f i.toNatClampNeg none))))))) n u) (hin : vp_in i n0) (d : decode cc pc = .ok (.aastore, 1)) (kk : AW G p l e R s m args below meth c A nL Q V1 (pc + 1) L st) : AW G p l e R s m args below meth c A nL Q V pc L (.null :: .int i :: .ref a :: st) := by
  intro h n u hV H locs ls hz hu hR hA hS hl
  obtain ⟨e1, e3⟩ := hv h n u hV
  have hP := hR a _ e1
  refine va_WaastN (C := "java/lang/Object") C.exec C.2.1 hP ((C.K.1.2 3 _ rfl).1 n0 (fun j => va_rf (f j))) (fun h => by cases h) (by show ¬ (i < 0 ∨ (arrV _ _ _).slots.size ≤ _); rw [arrV_size]; exact hin) rfl rfl d fun H1 x1 x2 x3 => ?_
  refine a_after (V1 := V1) hz hu hR hA hS hl e1 e3 hP x1 (a_setSlot_size _ _ _) ?_ x2 x3 kk
  show H1[a]? = some (vp_cell _ _)
  rw [x1]
  rw [vp_cell_q, vp_cell_q, arrV_store]
  congr 2
  funext q
  by_cases hq : q = i.toNatClampNeg
  · subst hq
    simp [updV, va_up, va_rf]
  · simp [updV, va_up, hq]
/-- behind a push -/
theorem a_made {h : AH} {n u N : Nat} {H H1 : Heap} {locs : List Loc} {ls : Array Slot} {cells slots : Nat} {E : aE} (C : Cx G p l s m args meth c A y cc nL rt) (hz : H.size = n) (hu : slT H = u) (hR : a_R G h H) (hA : ∀ a e, h a = some e → A a) (hS : va_S A s.heap H locs) (hl : lv_has ls nL (a_L 0 L)) (z1 : H1.size = n + 1) (u1 : slT H1 = u + N) (he : va_at G.1 aCl (n, cv G E) H1) (oq : ∀ q : Nat, q < n → H1[q]? = H[q]?) (hV1 : V1 (a_up h n E) (n + 1) (u + N)) (k : AW G p l e R s m args below meth c A nL Q V1 pc L st) : W p l e R s m args below meth c H1 locs cells slots Q (F0 m pc ls st) := by
  subst hz
  refine W_tight ?_
  rw [z1, u1]
  exact k _ _ _ hV1 H1 _ ls z1 u1 (hR.push he oq) (fun q f hq => by
    by_cases w : q = H.size
    · rw [w]; exact C.hA _ hS.1
    · rw [a_up_ne w] at hq; exact hA q f hq) ⟨Nat.le_trans hS.1 (by omega), fun q h1 h2 => (oq q (Nat.lt_of_lt_of_le h1 hS.1)).trans (hS.2.1 q h1 h2), hS.2.2⟩ hl
/-- a world behind a new cell: its address is q, the number of cells so far -/
abbrev aNew (V : aWd) (q N : Nat) (E : aE) : aWd := fun h1 n1 u1 => ∃ h n u, V h n u ∧ n = q ∧ (∀ a f, h a = some f → a < q) ∧ h1 = a_up h q E ∧ n1 = q + 1 ∧ u1 = u + N
theorem a_new (C : Cx G p l s m args meth c A y cc nL rt) {C0 : String} {T : u_T} {N ci index : Nat} {fs : List Value} (hin : ∀ w ∈ u_ws C0 T N, w ∈ lw_all) (ty : Nat → FieldType) (hty : ∀ k, k < N → parseFieldDescriptor (T k).2.2.1 = some (ty k)) (hcl : Cond.classLink y.cls index C0 ∈ lw_all) (hinst : Cond.instantiable C0 N ∈ lw_all) (hini : Cond.initialized C0 ∈ lw_all) (hc : aCl[ci]? = some (C0, T, N)) (hfs : ∀ j, j < N → defaultValue (ty j) = vp_V fs j) (hroom : ∀ h n u, V h n u → n + 1 ≤ s.heap.size + R.cells ∧ u + N ≤ slT s.heap + R.slots) (d : decode cc pc = .ok (.new index, 3)) (kk : ∀ q, AW G p l e R s m args below meth c A nL Q (aNew V q N (.inr (ci, fs))) (pc + 3) L (.ref q :: st)) : AW G p l e R s m args below meth c A nL Q V pc L st := by
  intro h n u hV H locs ls hz hu hR hA hS hl
  obtain ⟨r1, r2⟩ := hroom h n u hV
  have hKn := C.K.1.1 ci _ hc
  have hS1 := hS.1
  refine W_sized fun w1 w2 w3 w4 => ?_
  refine W.newc C.exec C.2.1 C.own (C.ts _ hcl) (C.ts _ hinst) (C.ts _ hini) rfl d (by omega) (by omega) fun cC kC f1 f2 f3 f4 => ?_
  have hcC : cC = G.1.1 ci := Option.some.inj (f1.symm.trans hKn.2.1)
  subst hcC
  subst hz
  generalize hH1 : H.push ({ cls := G.1.1 ci, slots := kC.instanceTypes.map defaultValue, vm := .none } : Cell) = H1
  have z1 : H1.size = H.size + 1 := by rw [← hH1, Array.size_push]
  have u1 : slT H1 = u + N := by rw [← hH1, slT_push, hu, Array.size_map, f4]
  have e1 : H1[H.size]? = some (blank (G.1.1 ci) kC) := by rw [← hH1, Array.getElem?_push_size]; rfl
  have o1 : ∀ q : Nat, q < H.size → H1[q]? = H[q]? := fun q hq => by rw [← hH1, Array.getElem?_push, if_neg (Nat.ne_of_lt hq)]
  exact a_made (E := .inr (ci, fs)) (V1 := aNew V H.size N (.inr (ci, fs))) C rfl hu hR hA hS hl z1 u1 ⟨_, hc, (u_born ty C.ts hin hKn f2 e1 hty).to hfs⟩ o1 ⟨h, H.size, u, hV, rfl, fun a f hf => hR.lt hf, rfl, rfl, rfl⟩ (kk H.size)
theorem a_newa (C : Cx G p l s m args meth c A y cc nL rt) {atype : ArrayType} {ty : FieldType} {kd : Nat} {a0 : vp_A} (hty : newarray.typeOf atype = ty) (hp : ty.isReference = false) (harr : Cond.arrayClass ty ∈ lw_all) (hkd : ∀ G : aG, (aTys G)[kd]? = some (G.2.1 kd, ty)) {x : Int32} {N : Nat} (ha : ∀ cA : ClassId, vp_cell cA a0 = arrV cA N (fun _ => defaultValue ty)) (hn : ¬ x < 0) (hN : x.toNatClampNeg = N) (hbytes : N * componentBytes ty ≤ 536870912) (hroom : ∀ h n u, V h n u → n + 1 ≤ s.heap.size + R.cells ∧ u + N ≤ slT s.heap + R.slots) (d : decode cc pc = .ok (.newarray atype, 2)) (kk : ∀ q, AW G p l e R s m args below meth c A nL Q (aNew V q N (.inl (kd, a0))) (pc + 2) L (.ref q :: st)) : AW G p l e R s m args below meth c A nL Q V pc L (.int x :: st) := by
  intro h n u hV H locs ls hz hu hR hA hS hl
  subst hty
  subst hN
  obtain ⟨r1, r2⟩ := hroom h n u hV
  have hS1 := hS.1
  refine W_sized fun w1 w2 w3 w4 => ?_
  refine W.newa C.exec C.2.1 (C.ts _ harr) rfl d rfl hn hbytes (by omega) (by omega) fun cA kA comp f1 f2 f3 => ?_
  subst hz
  generalize hH1 : H.push ({ cls := cA, slots := Array.replicate x.toNatClampNeg (defaultValue (newarray.typeOf atype)), vm := .none } : Cell) = H1
  have z1 : H1.size = H.size + 1 := by rw [← hH1, Array.size_push]
  have u1 : slT H1 = u + x.toNatClampNeg := by rw [← hH1, slT_push, hu, Array.size_replicate]
  have e1 : H1[H.size]? = some (arrV cA x.toNatClampNeg (fun _ => defaultValue (newarray.typeOf atype))) := by rw [← hH1, Array.getElem?_push_size, ← arrV_new]
  have o1 : ∀ q : Nat, q < H.size → H1[q]? = H[q]? := fun q hq => by rw [← hH1, Array.getElem?_push, if_neg (Nat.ne_of_lt hq)]
  have hcls : cA = G.2.1 kd := by
    have h1 := (C.K.1.2 kd _ (hkd G)).2
    have h2 : s.vm.findClass ("[" ++ (newarray.typeOf atype).toString) = some (G.2.1 kd) := by
      cases hq : newarray.typeOf atype <;> rw [hq] at h1 hp <;> first | exact h1 | (cases hp)
    exact Option.some.inj (f1.symm.trans h2)
  subst hcls
  exact a_made (E := .inl (kd, a0)) (V1 := aNew V H.size x.toNatClampNeg (.inl (kd, a0))) C rfl hu hR hA hS hl z1 u1 (show H1[H.size]? = some (vp_cell _ _) by rw [ha]; exact e1) o1 ⟨h, H.size, u, hV, rfl, fun a f hf => hR.lt hf, rfl, rfl, rfl⟩ (kk H.size)
theorem a_newq (C : Cx G p l s m args meth c A y cc nL rt) {E : String} {kd index : Nat} (hcl : Cond.classLink y.cls index E ∈ lw_all) (hover : Cond.arrayOver (.object E) ∈ lw_tbl) (hkd : ∀ G : aG, (aTys G)[kd]? = some (G.2.1 kd, .object E)) {x : Int32} {N : Nat} (hn : ¬ x < 0) (hN : x.toNatClampNeg = N) (hbytes : N * 4 ≤ 536870912) (hroom : ∀ h n u, V h n u → n + 1 ≤ s.heap.size + R.cells ∧ u + N ≤ slT s.heap + R.slots) (d : decode cc pc = .ok (.anewarray index, 3)) (kk : ∀ q, AW G p l e R s m args below meth c A nL Q (aNew V q N (.inl (kd, N, .inr (.inr (.inr (.inr (fun _ => none))))))) (pc + 3) L (.ref q :: st)) : AW G p l e R s m args below meth c A nL Q V pc L (.int x :: st) := by
  intro h n u hV H locs ls hz hu hR hA hS hl
  subst hN
  obtain ⟨r1, r2⟩ := hroom h n u hV
  have hS1 := hS.1
  refine W_sized fun w1 w2 w3 w4 => ?_
  refine W.anew C.exec C.2.1 C.own (C.ts _ hcl) (va_AO.use (C.K.2.1 _ hover rfl)) rfl d rfl hn hbytes (by omega) (by omega) fun cA kA comp f1 f2 f3 f4 => ?_
  subst hz
  generalize hH1 : H.push ({ cls := cA, slots := Array.replicate x.toNatClampNeg .null, vm := .none } : Cell) = H1
  have z1 : H1.size = H.size + 1 := by rw [← hH1, Array.size_push]
  have u1 : slT H1 = u + x.toNatClampNeg := by rw [← hH1, slT_push, hu, Array.size_replicate]
  have e1 : H1[H.size]? = some (arrV cA x.toNatClampNeg (fun _ => .null)) := by rw [← hH1, Array.getElem?_push_size, ← arrV_new]
  have o1 : ∀ q : Nat, q < H.size → H1[q]? = H[q]? := fun q hq => by rw [← hH1, Array.getElem?_push, if_neg (Nat.ne_of_lt hq)]
  have hcls : cA = G.2.1 kd := by
    obtain ⟨kA', comp', g1, g2, g3, g4⟩ := (C.K.1.2 kd _ (hkd G)).2
    exact Option.some.inj (f1.symm.trans g4)
  subst hcls
  exact a_made (E := .inl (kd, x.toNatClampNeg, .inr (.inr (.inr (.inr (fun _ => none)))))) (V1 := aNew V H.size x.toNatClampNeg (.inl (kd, x.toNatClampNeg, .inr (.inr (.inr (.inr (fun _ => none))))))) C rfl hu hR hA hS hl z1 u1 (show H1[H.size]? = some (vp_cell _ _) by rw [vp_cell_q]; exact e1) o1 ⟨h, H.size, u, hV, rfl, fun a f hf => hR.lt hf, rfl, rfl, rfl⟩ (kk H.size)
theorem a_objInit (C : Cx G p l s m args meth c A y cc nL rt) {a idx k MC MS : Nat} (hlink : Cond.methodLink y.cls idx Lib.objectInit ∈ lw_all) (hinst : Cond.instanceMethod Lib.objectInit ∈ lw_all) (hcode : Cond.code Lib.objectInit ⟨#[0xb1]⟩ 1 none ∈ lw_all) (hk : 1 ≤ k) (hst : (st.map fun v => v.category).sum ≤ 8) (d : decode cc pc = .ok (.invokespecial idx, 3)) (kk : AW G p l e ({ frames := k, cells := MC, slots := MS, locals := 48 * k } : Room) s m args below meth c A nL Q V (pc + 3) L st) : AW G p l e ({ frames := k, cells := MC, slots := MS, locals := 48 * k } : Room) s m args below meth c A nL Q V pc L (.ref a :: st) := by
  intro h n u hV H locs ls hz hu hR hA hS hl
  refine W.objInit C.exec C.2.1 C.own (C.ts _ hlink) (C.ts _ hinst) (C.ts _ hcode) rfl (by rw [C.maxL]; exact hl.1) rfl d hk ?_ (kk h n u hV H locs ls hz hu hR hA hS hl)
  show 2 * 0 + (st.map fun v => v.category).sum + 12 ≤ 48 * k
  omega
theorem a_gets (C : Cx G p l s m args meth c A y cc nL rt) {C0 nm ds ref : String} {v : Value} {index : Nat} (hZ : va_Z C0 nm ds v A s s.heap) (hlink : Cond.fieldLink y.cls index ref nm ds ∈ lw_all) (hsame : ref = C0) (d : decode cc pc = .ok (.getstatic index, 3)) (kk : AW G p l e R s m args below meth c A nL Q V (pc + 3) L (v :: st)) : AW G p l e R s m args below meth c A nL Q V pc L st :=
  fun h n u hV H locs ls hz hu hR hA hS hl => va_gets C.exec C.2.1 hZ hS C.own (C.ts _ hlink) (by subst hsame; exact fun _ h => h) d (kk h n u hV H locs ls hz hu hR hA hS hl)
theorem a_ldcS (C : Cx G p l s m args meth c A y cc nL rt) {tx : String} {index q : Nat} (hZ : vk_R y.cls index tx q s) (d : decode cc pc = .ok (.ldc index, 2)) (kk : AW G p l e R s m args below meth c A nL Q V (pc + 2) L (.ref q :: st)) : AW G p l e R s m args below meth c A nL Q V pc L st :=
  fun h n u hV H locs ls hz hu hR hA hS hl => va_ldcS C.exec C.2.1 C.own hZ d (kk h n u hV H locs ls hz hu hR hA hS hl)
end AHeap
def aRm (k mc ms : Nat) : Room := { frames := k, cells := mc, slots := ms, locals := 48 * k }
def a_Qc (G : aG) (post : Option Value → aWd) (A : Nat → Prop) : Array Value → State → Outcome → State → Prop := fun _ st o t => (∃ (r : Option Value) (h : AH), o = .returned r ∧ post r h t.heap.size (slT t.heap) ∧ a_R G h t.heap ∧ ∀ a e, h a = some e → A a) ∧ va_F A st t
def a_Pc (G : aG) (vs : List Value) (h0 : AH) (n0 u0 : Nat) : Array Value → State → Prop := va_Pc vs (fun U => U.heap.size = n0 ∧ slT U.heap = u0 ∧ a_R G h0 U.heap ∧ aK G U ∧ aSC G (a_A h0 n0) U U.heap)
theorem a_Pc.blind {G : aG} {vs : List Value} {h0 : AH} {n0 u0 : Nat} : FrameBlind (a_Pc G vs h0 n0 u0) := by
  rintro a U g mk ⟨q0, q1, q2, q3, q4, q5⟩
  exact ⟨q0, q1, q2, q3, q4.calling, aSC.warm (s := U) (U := U.calling g mk a) (State.WarmedH.refl U) q5⟩
/-- a contract: from the heap h0 of n0 cells and u0 slots, y of vs returns and post holds; it makes at most mc cells of ms slots; k: how deep it calls -/
def CT (l : Launch) (y : MethodName) (ws : List Cond) (k : Nat) (G : aG) (vs : List Value) (h0 : AH) (n0 u0 mc ms : Nat) (post : Option Value → aWd) : Prop :=
  l.flags = flags0 → Met l y ws (aRm k mc ms) (a_Pc G vs h0 n0 u0) (a_Qc G post (a_A h0 n0)) mc ms (a_A h0 n0)
theorem a_A.self {G : aG} {h0 : AH} {n0 : Nat} : ∀ a e, h0 a = some e → a_A h0 n0 a := fun a e he => Or.inl (by rw [he]; exact fun z => by cases z)
theorem CT.post {l : Launch} {y : MethodName} {ws : List Cond} {k : Nat} {G : aG} {vs : List Value} {h0 : AH} {n0 u0 mc ms : Nat} {post post1 : Option Value → aWd} (h : CT l y ws k G vs h0 n0 u0 mc ms post) (hp : ∀ r h n u, post r h n u → post1 r h n u) : CT l y ws k G vs h0 n0 u0 mc ms post1 := by
  intro hl p e ha hc hk s m args below hf happ hP hK
  obtain ⟨nn, o, h1, h2, h3, h4, h5⟩ := h hl p e ha hc hk s m args below hf happ hP hK
  obtain ⟨⟨r, hh, g1, g2, g3, g4⟩, hF⟩ := h4
  exact ⟨nn, o, h1, h2, h3, ⟨⟨r, hh, g1, hp _ _ _ _ g2, g3, g4⟩, hF⟩, h5⟩
theorem CT.intro {l : Launch} {y : MethodName} {k : Nat} {G : aG} {vs : List Value} {h0 : AH} {n0 u0 mc ms : Nat} {post : Option Value → aWd} {cc : ByteArray} {maxL : Nat} {ret : Option FieldType} (L : List (Option Value)) (hy : plainName y.cls = true) (hL : a_L 0 L = lv_args 0 vs) (hn : (lg_sl vs).length ≤ maxL)
    (body : ∀ (p : Program) (e : Env) (s : State) (m : MethodId) (args : Array Value) (below : List Frame) (meth : Method) (c : Code), Cx G p l s m args meth c (a_A h0 n0) y cc maxL ret → s.heap.size = n0 → slT s.heap = u0 →
      AW G p l e (aRm k mc ms) s m args below meth c (a_A h0 n0) maxL (MQ below (a_Qc G post (a_A h0 n0)) args s mc ms (a_A h0 n0)) (aIs h0 n0 u0) 0 L []) : CT l y (ws_ y cc maxL ret) k G vs h0 n0 u0 mc ms post := by
  intro hfl
  refine Met.ofW (cc := cc) (maxL := maxL) (ret := ret) hy rfl ?_
  intro p e s m args below meth c s₁ B hml hv
  obtain ⟨rfl, hz, hu, hR, hK, hSC⟩ := hv
  have hts := atoms_spec (ws := ws_ y cc maxL ret) B.pre
  have C : Cx G p l s m vs.toArray meth c (a_A h0 n0) y cc maxL ret := ⟨B.exec, B.bytes, hml, findClass_of_methodNamed B.named, fun w h => hts w (List.mem_cons_of_mem _ h), B.notSynchronized, B.returns, hK, fun q hq => Or.inr (by omega), hSC, (name_of_methodNamed B.named B.method).1, hfl⟩
  have hl := lv_entry vs (n := maxL) hn
  rw [lg_entry_eq]
  rw [← hL] at hl
  have W0 := body p e s m vs.toArray below meth c C hz hu h0 n0 u0 ⟨rfl, rfl, rfl⟩ s.heap [] _ hz hu hR (a_A.self (G := G)) va_S.rf hl
  rw [show n0 - s.heap.size = 0 by omega, show u0 - slT s.heap = 0 by omega] at W0
  exact W0
section ACalls
variable {G : aG} {p : Program} {l : Launch} {e : Env} {R : Room} {s : State} {m : MethodId} {args : Array Value} {below : List Frame} {meth : Method} {c : Code} {A : Nat → Prop} {y : MethodName} {cc : ByteArray} {nL : Nat} {rt : Option FieldType} {Q : State → Prop} {V V1 : aWd} {pc : Nat} {L : List (Option Value)} {st : List Value}
theorem a_iret {k mc ms : Nat} {post : Option Value → aWd} {v : Int32} (C : Cx G p l s m args meth c A y cc nL (some .int)) (d : decode cc pc = .ok (.ireturn, 1)) (hq : ∀ h n u, V h n u → post (some (.int v)) h n u ∧ n ≤ s.heap.size + mc ∧ u ≤ slT s.heap + ms) : AW G p l e (aRm k mc ms) s m args below meth c A nL (MQ below (a_Qc G post A) args s mc ms A) V pc L [.int v] := by
  intro h n u hV H locs ls hz hu hR hA hS hl
  obtain ⟨q1, q2, q3⟩ := hq h n u hV
  refine W.widen (k := mc) (n := ms) (by omega) (by omega) ?_
  exact W.iret C.exec C.2.1 C.ret (fun t ht hW => ⟨⟨_, h, rfl, by rw [ht, hz, hu]; exact q1, by rw [ht]; exact hR, hA⟩, hS.F ht⟩) hS.2.2 d C.locks
theorem a_zret {k mc ms : Nat} {post : Option Value → aWd} {v : Int32} {ty : FieldType} (hn : narrow ty (.int v) = .int v) (C : Cx G p l s m args meth c A y cc nL (some ty)) (d : decode cc pc = .ok (.ireturn, 1)) (hq : ∀ h n u, V h n u → post (some (.int v)) h n u ∧ n ≤ s.heap.size + mc ∧ u ≤ slT s.heap + ms) : AW G p l e (aRm k mc ms) s m args below meth c A nL (MQ below (a_Qc G post A) args s mc ms A) V pc L [.int v] := by
  intro h n u hV H locs ls hz hu hR hA hS hl
  obtain ⟨q1, q2, q3⟩ := hq h n u hV
  refine W.widen (k := mc) (n := ms) (by omega) (by omega) ?_
  exact W.zret C.exec C.2.1 C.ret hn (fun t ht hW => ⟨⟨_, h, rfl, by rw [ht, hz, hu]; exact q1, by rw [ht]; exact hR, hA⟩, hS.F ht⟩) hS.2.2 d C.locks
theorem a_vret {k mc ms : Nat} {post : Option Value → aWd} (C : Cx G p l s m args meth c A y cc nL none) (d : decode cc pc = .ok (.return_, 1)) (hq : ∀ h n u, V h n u → post (none) h n u ∧ n ≤ s.heap.size + mc ∧ u ≤ slT s.heap + ms) : AW G p l e (aRm k mc ms) s m args below meth c A nL (MQ below (a_Qc G post A) args s mc ms A) V pc L [] := by
  intro h n u hV H locs ls hz hu hR hA hS hl
  obtain ⟨q1, q2, q3⟩ := hq h n u hV
  refine W.widen (k := mc) (n := ms) (by omega) (by omega) ?_
  exact W.vret C.exec C.2.1 C.ret (fun t ht hW => ⟨⟨_, h, rfl, by rw [ht, hz, hu]; exact q1, by rw [ht]; exact hR, hA⟩, hS.F ht⟩) hS.2.2 d C.locks
theorem a_dret {k mc ms : Nat} {post : Option Value → aWd} {v : UInt64} (C : Cx G p l s m args meth c A y cc nL (some .double)) (d : decode cc pc = .ok (.dreturn, 1)) (hq : ∀ h n u, V h n u → post (some (.double v)) h n u ∧ n ≤ s.heap.size + mc ∧ u ≤ slT s.heap + ms) : AW G p l e (aRm k mc ms) s m args below meth c A nL (MQ below (a_Qc G post A) args s mc ms A) V pc L [.double v] := by
  intro h n u hV H locs ls hz hu hR hA hS hl
  obtain ⟨q1, q2, q3⟩ := hq h n u hV
  refine W.widen (k := mc) (n := ms) (by omega) (by omega) ?_
  exact W.dret C.exec C.2.1 C.ret (fun t ht hW => ⟨⟨_, h, rfl, by rw [ht, hz, hu]; exact q1, by rw [ht]; exact hR, hA⟩, hS.F ht⟩) hS.2.2 d C.locks
theorem a_aret {k mc ms : Nat} {post : Option Value → aWd} {v : Value} {ty : FieldType} (hrt : (∃ n, ty = .object n) ∨ ∃ t, ty = .array t) (hv : v = .null ∨ ∃ a, v = .ref a) (C : Cx G p l s m args meth c A y cc nL (some ty)) (d : decode cc pc = .ok (.areturn, 1)) (hq : ∀ h n u, V h n u → post (some v) h n u ∧ n ≤ s.heap.size + mc ∧ u ≤ slT s.heap + ms) : AW G p l e (aRm k mc ms) s m args below meth c A nL (MQ below (a_Qc G post A) args s mc ms A) V pc L [v] := by
  intro h n u hV H locs ls hz hu hR hA hS hl
  obtain ⟨q1, q2, q3⟩ := hq h n u hV
  refine W.widen (k := mc) (n := ms) (by omega) (by omega) ?_
  exact W.aret C.exec C.2.1 C.ret hrt hv (fun t ht hW => ⟨⟨_, h, rfl, by rw [ht, hz, hu]; exact q1, by rw [ht]; exact hR, hA⟩, hS.F ht⟩) hS.2.2 d C.locks
theorem a_run {H : Heap} {locs : List Loc} {ls : Array Slot} {cells slots mc ms : Nat} {st0 : List Value} {a1 : Array Value} {A1 : Nat → Prop} {post : Option Value → aWd} (hr : va_Run p l e R s m args below meth c H locs cells slots mc ms (F0 m pc ls st0) st (a_Qc G post A1 a1) A1) (hS : va_S A s.heap H locs) (hl : lv_has ls nL (a_L 0 L)) (hA1 : ∀ q, A1 q → A q)
    (kk : ∀ r h1 n1 u1, post r h1 n1 u1 → AW G p l e R s m args below meth c A nL Q (aIs h1 n1 u1) (pc + 3) L (r.toList ++ st)) : W p l e R s m args below meth c H locs cells slots Q (F0 m pc ls st0) := by
  intro T hT X
  obtain ⟨v, st₀, t, T', Lx, h0, X', hL, e1, e2, ⟨⟨r, h1, hv, hp, hR1, hAA⟩, hz, hk⟩, stp⟩ := hr T hT X
  cases hv
  rw [h0] at hz hk
  obtain ⟨t2, a2, b2⟩ := W_tight (cells := cells + mc) (slots := slots + ms) (kk v h1 T'.heap.size (slT T'.heap) (by rw [e1]; exact hp) h1 _ _ ⟨rfl, rfl, rfl⟩ T'.heap (locs ++ Lx) ls rfl rfl (by rw [e1]; exact hR1) (fun a f hf => hA1 _ (hAA a f hf))
    ⟨Nat.le_trans hS.1 (by rw [e1]; exact hz), fun q h1 h2 => by rw [e1, hk q (Nat.lt_of_lt_of_le h1 hS.1) (fun z => h2 (hA1 q z))]; exact hS.2.1 q h1 h2, fun q hq => by
      rcases List.mem_append.mp hq with h | h
      · exact hS.2.2 q h
      · exact hA1 _ (hL q h)⟩ hl) T' rfl X'
  exact ⟨t2, stp t2 a2, b2⟩
theorem a_start {h : AH} {n u : Nat} {H : Heap} {locs : List Loc} {vs : List Value} (C : Cx G p l s m args meth c A y cc nL rt) (hz : H.size = n) (hu : slT H = u) (hR : a_R G h H) (hA : ∀ a e, h a = some e → A a) (hS : va_S A s.heap H locs) : ∀ U : State, U.heap = H → s.WarmedH U.vm → a_Pc G vs h n u vs.toArray U := by
  intro U hU hW
  subst hU
  refine ⟨rfl, hz, hu, hR, C.K.warm hW, aSC.warm hW ((C.SC.kept hS.2.1).narrow fun q hq => ?_)⟩
  rcases hq with hq | hq
  · cases hh : h q with
    | none => exact absurd hh hq
    | some f => exact hA q f hh
  · exact C.hA q (by have := hS.1; omega)
theorem a_sub {h : AH} {n : Nat} {H : Heap} {locs : List Loc} (C : Cx G p l s m args meth c A y cc nL rt) (hz : H.size = n) (hA : ∀ a e, h a = some e → A a) (hS : va_S A s.heap H locs) : ∀ q, a_A h n q → A q := by
  intro q hq
  rcases hq with hq | hq
  · cases hh : h q with
    | none => exact absurd hh hq
    | some f => exact hA q f hh
  · exact C.hA q (by have := hS.1; omega)
abbrev aSig (y : MethodName) (n : Nat) : Prop := y.cls ≠ "java/lang/invoke/MethodHandle" ∧ y.cls ≠ "java/lang/invoke/VarHandle" ∧ (parseMethodDescriptor y.desc).map (fun d => d.parameters.length) = some n
theorem a_recv {h : AH} {H : Heap} {b ci : Nat} {fs : List Value} {r : vw_C} {C0 : String} (hK : aK G s) (hR : a_R G h H) (hb : h b = some (.inr (ci, fs))) (hc : aCl[ci]? = some r) (hC : r.1 = C0) : ∃ cell : Cell, H[b]? = some cell ∧ cell.vm.isStatics = false ∧ s.vm.findClass C0 = some cell.cls := by
  subst hC
  exact va_recv (q0 := 0) hK.1 (hR.one hb) hc rfl
theorem a_callV (C : Cx G p l s m args meth c A y cc nL rt) {y1 : MethodName} {bytes : ByteArray} {maxL k k1 mc ms MC MS index : Nat} {ret : Option FieldType} {vs : List Value} {b ci : Nat} {r0 : vw_C} {X : Type} (rv : X → Option Value) (Pq : X → Prop) (V1 : X → aWd) (hk : k1 < k) (hm : maxL ≤ 29) (hM : ∀ h n u, V h n u → CT l y1 (ws_ y1 bytes maxL ret) k1 G (.ref b :: vs) h n u mc ms (fun r h1 n1 u1 => ∃ x, r = rv x ∧ Pq x ∧ V1 x h1 n1 u1)) (hc : aCl[ci]? = some r0) (hcn : r0.1 = y1.cls) (hb : ∀ h n u, V h n u → ∃ fs, h b = some (.inr (ci, fs))) (hG : GoodIn lw_all (wsV y.cls index y1.cls y1 (ws_ y1 bytes maxL ret))) (hd : aSig y1 vs.length) (hroom : ∀ h n u, V h n u → n + mc ≤ s.heap.size + MC ∧ u + ms ≤ slT s.heap + MS) (hst : (st.map fun v => v.category).sum ≤ 8) (d : decode cc pc = .ok (.invokevirtual index, 3)) (kk : ∀ x, Pq x → AW G p l e (aRm k MC MS) s m args below meth c A nL Q (V1 x) (pc + 3) L ((rv x).toList ++ st)) : AW G p l e (aRm k MC MS) s m args below meth c A nL Q V pc L (vs.reverse ++ .ref b :: st) := by
  intro h n u hV H locs ls hz hu hR hA hS hl
  obtain ⟨r1, r2⟩ := hroom h n u hV
  have hS1 := hS.1
  refine W_sized fun w1 w2 w3 w4 => ?_
  have cw : CallW (aRm k MC MS) s args y.cls y1.cls index y1 bytes maxL ret (ws_ y1 bytes maxL ret) (aRm k1 mc ms) mc ms vs.length := cwV vs.length C.ts hG rfl rfl rfl ⟨rfl, hd.1, hd.2.1, hd.2.2⟩ ⟨by show k1 + 1 ≤ k; omega, by show 8 + (maxL + 11) + 48 * k1 ≤ 48 * k; omega⟩
  refine a_run (L := L) (post := fun r h1 n1 u1 => ∃ x, r = rv x ∧ Pq x ∧ V1 x h1 n1 u1) (va_runV ⟨C.exec, C.2.1, C.maxL, C.own, C.ts⟩ (hM h n u hV C.fl) cw ⟨a_Pc.blind, (by obtain ⟨fs, hb1⟩ := hb h n u hV; exact a_recv C.K hR hb1 hc hcn), a_start C hz hu hR hA hS⟩ rfl rfl hl.1 rfl (lv_room hst) d ⟨by show n - s.heap.size + mc ≤ MC; omega, by show u - slT s.heap + ms ≤ MS; omega⟩) hS hl (a_sub C hz hA hS) ?_
  rintro r h1 n1 u1 ⟨x, rfl, g1, g2⟩
  exact a_world (fun h n u q => by obtain ⟨rfl, rfl, rfl⟩ := q; exact g2) (kk x g1)
theorem a_callS (C : Cx G p l s m args meth c A y cc nL rt) {y1 : MethodName} {bytes : ByteArray} {maxL k k1 mc ms MC MS index : Nat} {ret : Option FieldType} {vs : List Value} {X : Type} (rv : X → Option Value) (Pq : X → Prop) (V1 : X → aWd) (hk : k1 < k) (hm : maxL ≤ 29) (hM : ∀ h n u, V h n u → CT l y1 (ws_ y1 bytes maxL ret) k1 G vs h n u mc ms (fun r h1 n1 u1 => ∃ x, r = rv x ∧ Pq x ∧ V1 x h1 n1 u1)) (hG : GoodIn lw_all (va_wsS y.cls index y1 (ws_ y1 bytes maxL ret))) (hd : aSig y1 vs.length) (hroom : ∀ h n u, V h n u → n + mc ≤ s.heap.size + MC ∧ u + ms ≤ slT s.heap + MS) (hst : (st.map fun v => v.category).sum ≤ 8) (d : decode cc pc = .ok (.invokestatic index, 3)) (kk : ∀ x, Pq x → AW G p l e (aRm k MC MS) s m args below meth c A nL Q (V1 x) (pc + 3) L ((rv x).toList ++ st)) : AW G p l e (aRm k MC MS) s m args below meth c A nL Q V pc L (vs.reverse ++ st) := by
  intro h n u hV H locs ls hz hu hR hA hS hl
  obtain ⟨r1, r2⟩ := hroom h n u hV
  have hS1 := hS.1
  refine W_sized fun w1 w2 w3 w4 => ?_
  have cw : CallB (aRm k MC MS) s args y.cls index y1 bytes maxL ret (ws_ y1 bytes maxL ret) (aRm k1 mc ms) mc ms vs.length ∧ (Cond.static y1).before args s = true := va_cwS vs.length C.ts hG rfl rfl rfl ⟨hd.1, hd.2.1, hd.2.2⟩ ⟨by show k1 + 1 ≤ k; omega, by show 8 + (maxL + 11) + 48 * k1 ≤ 48 * k; omega⟩
  refine a_run (L := L) (post := fun r h1 n1 u1 => ∃ x, r = rv x ∧ Pq x ∧ V1 x h1 n1 u1) (va_runS ⟨C.exec, C.2.1, C.maxL, C.own, C.ts⟩ (hM h n u hV C.fl) cw ⟨a_Pc.blind, a_start C hz hu hR hA hS⟩ rfl rfl hl.1 rfl (lv_room hst) d ⟨by show n - s.heap.size + mc ≤ MC; omega, by show u - slT s.heap + ms ≤ MS; omega⟩) hS hl (a_sub C hz hA hS) ?_
  rintro r h1 n1 u1 ⟨x, rfl, g1, g2⟩
  exact a_world (fun h n u q => by obtain ⟨rfl, rfl, rfl⟩ := q; exact g2) (kk x g1)
theorem a_callI (C : Cx G p l s m args meth c A y cc nL rt) {y1 : MethodName} {bytes : ByteArray} {maxL k k1 mc ms MC MS index : Nat} {ret : Option FieldType} {vs : List Value} {b : Nat} {X : Type} (rv : X → Option Value) (Pq : X → Prop) (V1 : X → aWd) (hk : k1 < k) (hm : maxL ≤ 29) (hM : ∀ h n u, V h n u → CT l y1 (ws_ y1 bytes maxL none) k1 G (.ref b :: vs) h n u mc ms (fun r h1 n1 u1 => ∃ x, r = rv x ∧ Pq x ∧ V1 x h1 n1 u1)) (hini : Cond.initialized y1.cls ∈ lw_all) (hlink : Cond.methodLink y.cls index y1 ∈ lw_all) (hinst : Cond.instanceMethod y1 ∈ lw_all) (hy1 : y1.name = "<init>") (hG : GoodIn lw_all (ws_ y1 bytes maxL none)) (hd : aSig y1 vs.length) (hroom : ∀ h n u, V h n u → n + mc ≤ s.heap.size + MC ∧ u + ms ≤ slT s.heap + MS) (hst : (st.map fun v => v.category).sum ≤ 8) (d : decode cc pc = .ok (.invokespecial index, 3)) (kk : ∀ x, Pq x → AW G p l e (aRm k MC MS) s m args below meth c A nL Q (V1 x) (pc + 3) L ((rv x).toList ++ st)) : AW G p l e (aRm k MC MS) s m args below meth c A nL Q V pc L (vs.reverse ++ .ref b :: st) := by
  intro h n u hV H locs ls hz hu hR hA hS hl
  obtain ⟨r1, r2⟩ := hroom h n u hV
  have hS1 := hS.1
  refine W_sized fun w1 w2 w3 w4 => ?_
  have cw : CallB (aRm k MC MS) s args y.cls index y1 bytes maxL none (ws_ y1 bytes maxL none) (aRm k1 mc ms) mc ms vs.length ∧ y1.name = "<init>" ∧ (Cond.instanceMethod y1).before args s = true := cwI vs.length C.ts hG rfl rfl rfl (C.ts _ hini) (C.ts _ hlink) (C.ts _ hinst) hy1 ⟨hd.1, hd.2.1, hd.2.2⟩ ⟨by show k1 + 1 ≤ k; omega, by show 8 + (maxL + 11) + 48 * k1 ≤ 48 * k; omega⟩
  refine a_run (L := L) (post := fun r h1 n1 u1 => ∃ x, r = rv x ∧ Pq x ∧ V1 x h1 n1 u1) (va_runI ⟨C.exec, C.2.1, C.maxL, C.own, C.ts⟩ (hM h n u hV C.fl) cw ⟨a_Pc.blind, a_start C hz hu hR hA hS⟩ rfl rfl hl.1 rfl (lv_room hst) d ⟨by show n - s.heap.size + mc ≤ MC; omega, by show u - slT s.heap + ms ≤ MS; omega⟩) hS hl (a_sub C hz hA hS) ?_
  rintro r h1 n1 u1 ⟨x, rfl, g1, g2⟩
  exact a_world (fun h n u q => by obtain ⟨rfl, rfl, rfl⟩ := q; exact g2) (kk x g1)
end ACalls
