set_option maxRecDepth 100000
/-! ROWS OF THE WIDE WORLD -/
section ORows3
variable {G : aG} {p : Program} {l : Launch} {e : Env} {R : Room} {s : State} {m : MethodId} {args : Array Value} {below : List Frame} {meth : Method} {c : Code} {A : Nat → Prop} {y : MethodName} {cc : ByteArray} {nL : Nat} {rt : Option FieldType} {Q : State → Prop} {V : aWd} {pc k : Nat} {L : List (Option Value)} {st : List Value} {h0 : AH} {n0 u0 K : Nat} {E : Nat → Prop} {σ : OS}
theorem a_pure {P : Prop} (hP : ∀ h n u, V h n u → P) (k : P → AW G p l e R s m args below meth c A nL Q V pc L st) : AW G p l e R s m args below meth c A nL Q V pc L st := fun h n u q => k (hP h n u q) h n u q
theorem a_topq {x : Option Nat} (k : ∀ z : Option Nat, z = x → AW G p l e R s m args below meth c A nL Q V pc L (va_rf z :: st)) : AW G p l e R s m args below meth c A nL Q V pc L (va_rf x :: st) := k x rfl
theorem o_newC (C : Cx G p l s m args meth c A y cc nL rt) (hs : s.heap.size = n0 ∧ slT s.heap = u0) (cst : Nat) {C0 : String} {T : u_T} {N ci index : Nat} {fs : List Value} (hin : ∀ w ∈ u_ws C0 T N, w ∈ lw_all) (ty : Nat → FieldType) (hty : ∀ k, k < N → parseFieldDescriptor (T k).2.2.1 = some (ty k)) (hcl : Cond.classLink y.cls index C0 ∈ lw_all) (hinst : Cond.instantiable C0 N ∈ lw_all) (hini : Cond.initialized C0 ∈ lw_all) (hc : aCl[ci]? = some (C0, T, N)) (hfs : ∀ j, j < N → defaultValue (ty j) = vp_V fs j) (he : ne5 (.inr (ci, fs))) (h1 : 1 ≤ cst) (h2 : N ≤ 10 * cst) (h3 : cst ≤ σ.2.2.1) (d : decode cc pc = .ok (.new index, 3)) (kk : ∀ q, oFr σ q → (σ.2.2.2.1 ≠ 0 → q = σ.2.2.2.1) → ∀ σ1, σ1 = oNew σ q cst (.inr (ci, fs)) → AW G p l e (aRm k K (10 * K)) s m args below meth c A nL Q (OW h0 n0 u0 E K σ1) (pc + 3) L (.ref q :: st)) : AW G p l e (aRm k K (10 * K)) s m args below meth c A nL Q (OW h0 n0 u0 E K σ) pc L st := by
  refine a_new C hin ty hty hcl hinst hini hc hfs (o_roomN hs h1 h2 h3) d (fun q => ?_) 
  refine a_pure (P := oFr σ q ∧ (σ.2.2.2.1 ≠ 0 → q = σ.2.2.2.1)) (fun h n u hV => ⟨(OW.new (c := cst) he h1 h2 h3 hV).1, (OW.new (c := cst) he h1 h2 h3 hV).2.1⟩) fun hq => ?_
  exact a_world (fun h n u hV => (OW.new (c := cst) he h1 h2 h3 hV).2.2) (kk q hq.1 hq.2 _ rfl)
theorem o_newA (C : Cx G p l s m args meth c A y cc nL rt) (hs : s.heap.size = n0 ∧ slT s.heap = u0) (cst : Nat) {atype : ArrayType} {ty : FieldType} {kd : Nat} {a0 : vp_A} (hty : newarray.typeOf atype = ty) (hp : ty.isReference = false) (harr : Cond.arrayClass ty ∈ lw_all) (hkd : ∀ G : aG, (aTys G)[kd]? = some (G.2.1 kd, ty)) {x : Int32} {N : Nat} (ha : ∀ cA : ClassId, vp_cell cA a0 = arrV cA N (fun _ => defaultValue ty)) (hn : ¬ x < 0) (hN : x.toNatClampNeg = N) (hbytes : N * componentBytes ty ≤ 536870912) (h1 : 1 ≤ cst) (h2 : N ≤ 10 * cst) (h3 : cst ≤ σ.2.2.1) (d : decode cc pc = .ok (.newarray atype, 2)) (kk : ∀ q, oFr σ q → (σ.2.2.2.1 ≠ 0 → q = σ.2.2.2.1) → ∀ σ1, σ1 = oNew σ q cst (.inl (kd, a0)) → AW G p l e (aRm k K (10 * K)) s m args below meth c A nL Q (OW h0 n0 u0 E K σ1) (pc + 2) L (.ref q :: st)) : AW G p l e (aRm k K (10 * K)) s m args below meth c A nL Q (OW h0 n0 u0 E K σ) pc L (.int x :: st) := by
  have he : ne5 (.inl (kd, a0)) := fun f z => by cases z
  refine a_newa C hty hp harr hkd ha hn hN hbytes (o_roomN hs h1 h2 h3) d (fun q => ?_) 
  refine a_pure (P := oFr σ q ∧ (σ.2.2.2.1 ≠ 0 → q = σ.2.2.2.1)) (fun h n u hV => ⟨(OW.new (c := cst) he h1 h2 h3 hV).1, (OW.new (c := cst) he h1 h2 h3 hV).2.1⟩) fun hq => ?_
  exact a_world (fun h n u hV => (OW.new (c := cst) he h1 h2 h3 hV).2.2) (kk q hq.1 hq.2 _ rfl)
theorem o_newQ (C : Cx G p l s m args meth c A y cc nL rt) (hs : s.heap.size = n0 ∧ slT s.heap = u0) (cst : Nat) {E0 : String} {kd index : Nat} (hcl : Cond.classLink y.cls index E0 ∈ lw_all) (hover : Cond.arrayOver (.object E0) ∈ lw_tbl) (hkd : ∀ G : aG, (aTys G)[kd]? = some (G.2.1 kd, .object E0)) {x : Int32} {N : Nat} (hn : ¬ x < 0) (hN : x.toNatClampNeg = N) (hbytes : N * 4 ≤ 536870912) (h1 : 1 ≤ cst) (h2 : N ≤ 10 * cst) (h3 : cst ≤ σ.2.2.1) (d : decode cc pc = .ok (.anewarray index, 3)) (kk : ∀ q, oFr σ q → (σ.2.2.2.1 ≠ 0 → q = σ.2.2.2.1) → ∀ σ1, σ1 = oNew σ q cst (.inl (kd, N, .inr (.inr (.inr (.inr (fun _ => none)))))) → AW G p l e (aRm k K (10 * K)) s m args below meth c A nL Q (OW h0 n0 u0 E K σ1) (pc + 3) L (.ref q :: st)) : AW G p l e (aRm k K (10 * K)) s m args below meth c A nL Q (OW h0 n0 u0 E K σ) pc L (.int x :: st) := by
  have he : ne5 (.inl (kd, N, .inr (.inr (.inr (.inr (fun _ => none)))))) := fun f z => by cases z
  refine a_newq C hcl hover hkd hn hN hbytes (o_roomN hs h1 h2 h3) d (fun q => ?_) 
  refine a_pure (P := oFr σ q ∧ (σ.2.2.2.1 ≠ 0 → q = σ.2.2.2.1)) (fun h n u hV => ⟨(OW.new (c := cst) he h1 h2 h3 hV).1, (OW.new (c := cst) he h1 h2 h3 hV).2.1⟩) fun hq => ?_
  exact a_world (fun h n u hV => (OW.new (c := cst) he h1 h2 h3 hV).2.2) (kk q hq.1 hq.2 _ rfl)
theorem a_castS (C : Cx G p l s m args meth c A y cc nL rt) {ci a index : Nat} {r : vw_C} (hc : aCl[ci]? = some r) (hb : ∀ h n u, V h n u → ∃ fs, h a = some (.inr (ci, fs))) (hlink : Cond.classLink y.cls index r.1 ∈ lw_all) (d : decode cc pc = .ok (.checkcast index, 3)) (kk : AW G p l e R s m args below meth c A nL Q V (pc + 3) L (.ref a :: st)) : AW G p l e R s m args below meth c A nL Q V pc L (.ref a :: st) := by
  intro h n u hV H locs ls hz hu hR hA hS hl
  obtain ⟨fs, hb1⟩ := hb h n u hV
  exact va_castS C.exec C.2.1 C.own (C.ts _ hlink) (C.K.1.1 ci _ hc).2 (a_recv C.K hR hb1 hc rfl) d (kk h n u hV H locs ls hz hu hR hA hS hl)
theorem o_house {h : AH} {n u a : Nat} {w : MS × List Int32} (hy : σ.2.1 a = some w) (hV : OW h0 n0 u0 E K σ h n u) : ∃ fs, h a = some (.inr (1, fs)) := by
  obtain ⟨⟨b, e1, -⟩, -⟩ := hV.1.2.1 _ _ hy
  exact ⟨_, e1⟩
theorem OW.putA {h : AH} {n u a : Nat} {e0 e1 : Nat × vp_A} (hx : σ.1 a = some (.inl e0)) (hV : OW h0 n0 u0 E K σ h n u) : OW h0 n0 u0 E K (oPut σ a (.inl e1)) (a_up h a (.inl e1)) n u := hV.put hx (fun f z => by cases z)
theorem o_top {σ' : OS} (kk : ∀ σ1, σ1 = σ' → AW G p l e R s m args below meth c A nL Q (OW h0 n0 u0 E K σ1) pc L st) : AW G p l e R s m args below meth c A nL Q (OW h0 n0 u0 E K σ') pc L st := kk _ rfl
theorem rf_or (b : Option Nat) : va_rf b = .null ∨ ∃ a, va_rf b = .ref a := by
  cases b
  · exact Or.inl rfl
  · exact Or.inr ⟨_, rfl⟩
theorem a_getsQ (C : Cx G p l s m args meth c A y cc nL rt) {C0 nm ds ref : String} {index : Nat} (hZ : va_Zq C0 nm ds A s s.heap) (hlink : Cond.fieldLink y.cls index ref nm ds ∈ lw_all) (hsame : ref = C0) (d : decode cc pc = .ok (.getstatic index, 3)) (kk : ∀ b : Option Nat, AW G p l e R s m args below meth c A nL Q V (pc + 3) L (va_rf b :: st)) : AW G p l e R s m args below meth c A nL Q V pc L st := by
  rcases hZ with hZ | ⟨t, hZ⟩
  · exact a_gets C hZ hlink hsame d (kk none)
  · exact a_gets C hZ hlink hsame d (kk (some t))
theorem lw_SU {own : String} {idx : Nat} {y : MethodName} {b : ByteArray} {L : Nat} {r : Option FieldType} (h1 : Cond.methodLink own idx y ∈ lw_all) (h2 : Cond.sameMethod y.cls y.cls y.name y.desc ∈ lw_all) (h3 : Cond.superclass own y.cls ∈ lw_all) (h4 : Cond.instanceMethod y ∈ lw_all) (h5 : Cond.initialized y.cls ∈ lw_all) (h6 : Cond.code y b L r ∈ lw_all) : GoodIn lw_all (va_wsSU own idx y (ws_ y b L r)) := by
  refine lw_app (fun w hw => ?_) (lw_meth h6)
  simp only [List.mem_cons, List.not_mem_nil, or_false] at hw
  rcases hw with rfl | rfl | rfl | rfl | rfl <;> assumption
theorem ac_room {x kf : Nat} (hk : 1 ≤ kf) (hx : x ≤ 8) : 2 * 0 + x + (nativeFrameWords "java/lang/System" "arraycopy" 5 + 11) ≤ 48 * kf := by
  have : nativeFrameWords "java/lang/System" "arraycopy" 5 ≤ 29 := by decide
  omega
/-- System.arraycopy of bytes -/
theorem a_copyB (C : Cx G p l s m args meth c A y cc nL rt) {V1 : aWd} {kf MC MS index a0 a n0 n1 : Nat} {f g : Nat → Int32} {sp dp n : Int32} (hv : ∀ h n9 u, V h n9 u → h a0 = some (.inl (2, n0, .inl f)) ∧ h a = some (.inl (2, n1, .inl g)) ∧ V1 (a_up h a (.inl (2, n1, .inl (va_cpy f g sp.toNatClampNeg dp.toNatClampNeg n.toNatClampNeg)))) n9 u)
    (h1 : ¬ sp < 0) (h2 : ¬ dp < 0) (h3 : ¬ n < 0) (h4 : sp.toNatClampNeg + n.toNatClampNeg ≤ n0) (h5 : dp.toNatClampNeg + n.toNatClampNeg ≤ n1) (hfit : ∀ i, i < n.toNatClampNeg → fits .byte (.int (f (sp.toNatClampNeg + i))) = true) (hk : 1 ≤ kf) (hlink : Cond.methodLink y.cls index arraycopyName ∈ lw_all) (hst : (st.map fun v => v.category).sum ≤ 8) (d : decode cc pc = .ok (.invokestatic index, 3))
    (kk : AW G p l e (aRm kf MC MS) s m args below meth c A nL Q V1 (pc + 3) L st) : AW G p l e (aRm kf MC MS) s m args below meth c A nL Q V pc L (.int n :: .int dp :: .ref a :: .int sp :: .ref a0 :: st) := by
  intro h n9 u hV H locs ls hz hu hR hA hS hl
  obtain ⟨ea0, ea, eV⟩ := hv h n9 u hV
  have nn : ∀ z : Int32, ¬ z < 0 → z.toInt = (z.toNatClampNeg : Int) := by
    intro z hz
    have hz0 : (0 : Int) ≤ z.toInt := by
      have := Int32.not_lt.mp hz
      simpa using Int32.le_iff_toInt_le.mp this
    show z.toInt = ((z.toInt.toNat : Nat) : Int)
    omega
  have hnat : (Cond.native arraycopyName).before args s = true := C.ts _ q384
  have hstat : (Cond.static arraycopyName).before args s = true := C.ts _ q383
  have hini : (Cond.initialized "java/lang/System").before args s = true := C.ts _ q85
  have hc0 : H[a0]? = some (vp_cell (G.2.1 2) (n0, .inl f)) := hR a0 _ ea0
  have hc1 : H[a]? = some (vp_cell (G.2.1 2) (n1, .inl g)) := hR a _ ea
  have ht : (aTys G)[2]? = some (G.2.1 2, .byte) := rfl
  obtain ⟨-, k0, hk0, cm0, hkk0⟩ := (C.K.1.2 2 _ ht).1 n0 (fun j => .int (f j))
  obtain ⟨-, k1, hk1, cm1, hkk1⟩ := (C.K.1.2 2 _ ht).1 n1 (fun j => .int (g j))
  intro T hT X
  obtain ⟨vm', X', step⟩ := X.arraycopy C.exec C.own (C.ts _ hlink) hnat hstat hini (src := a0) (dst := a) (cs := vp_cell (G.2.1 2) (n0, .inl f)) (cd := vp_cell (G.2.1 2) (n1, .inl g)) (srcPos := sp) (destPos := dp) (n := n) (by rw [hT]; exact hc0) (by rw [hT]; exact hc1)
    (fun _ h => by cases h) (fun _ h => by cases h) (fun h => by cases h) (fun h => by cases h) hk0 hk1 hkk0 hkk1 rfl h1 h2 h3
    (by rw [nn sp h1, nn n h3]; show ¬ _ > ((arrV (G.2.1 2) n0 (fun j => .int (f j))).slots.size : Int); rw [arrV_size]; omega)
    (by rw [nn dp h2, nn n h3]; show ¬ _ > ((arrV (G.2.1 2) n1 (fun j => .int (g j))).slots.size : Int); rw [arrV_size]; omega)
    (fun vm₁ _ i hi => by
      have e : (vp_cell (G.2.1 2) (n0, .inl f)).slots.getD (sp.toNatClampNeg + i) .null = .int (f (sp.toNatClampNeg + i)) := by
        show (arrV (G.2.1 2) n0 (fun j => .int (f j))).slots.getD _ _ = _
        rw [Array.getD_eq_getD_getElem?, arrV_read _ _ (by omega)]
        rfl
      refine ⟨?_, ?_⟩
      · rw [e]
        exact hfit i hi
      · rw [e]
        exact trivial)
    (g := F0 m pc ls (.int n :: .int dp :: .ref a :: .int sp :: .ref a0 :: st)) rfl (by rw [C.maxL]; exact hl.1) (rest := st) rfl (by rw [C.2.1]; exact d) hk (ac_room hk hst)
  have e1 : copied (vp_cell (G.2.1 2) (n0, .inl f)) (vp_cell (G.2.1 2) (n1, .inl g)) sp dp n = vp_cell (G.2.1 2) (n1, .inl (va_cpy f g sp.toNatClampNeg dp.toNatClampNeg n.toNatClampNeg)) := va_copied (fun z => .int z) (G.2.1 2) (G.2.1 2) f g h4
  rw [e1] at X' step
  generalize hZ : vp_cell (G.2.1 2) (n1, .inl (va_cpy f g sp.toNatClampNeg dp.toNatClampNeg n.toNatClampNeg)) = Z at X' step
  have hlt : a < H.size := (Array.getElem?_eq_some_iff.mp hc1).1
  have hheap : ((T.setVm vm').setCell a Z).heap = H.setIfInBounds a Z := by rw [← hT]; rfl
  have oq : ∀ q : Nat, q ≠ a → (H.setIfInBounds a Z)[q]? = H[q]? := fun q hq => by simp [Array.getElem?_setIfInBounds, Ne.symm hq]
  have hself : (H.setIfInBounds a Z)[a]? = some Z := by simp [Array.getElem?_setIfInBounds, hlt]
  obtain ⟨t, a1, b1⟩ := kk _ n9 u eV (H.setIfInBounds a Z) _ ls (by simp [hz]) ((slT_put hc1 hself (by rw [← hZ]; show (arrV _ _ _).slots.size = (arrV _ _ _).slots.size; rw [arrV_size, arrV_size]) oq).trans hu)
    (hR.put (show (H.setIfInBounds a Z)[a]? = some (vp_cell _ _) by rw [hself, ← hZ]) oq) (fun q f9 hq => by
      by_cases w : q = a
      · rw [w]; exact hA a _ ea
      · rw [a_up_ne w] at hq; exact hA q f9 hq) ⟨by simp; exact hS.1, fun q g1 g2 => by
      rw [oq q (fun e => g2 (by rw [e]; exact hA a _ ea))]
      exact hS.2.1 q g1 g2, fun q hq => by
      rcases List.mem_append.mp hq with h | h
      · exact hS.2.2 q h
      · obtain ⟨z, -, hz⟩ := List.mem_map.mp h
        rw [← hz]
        exact hA a _ ea⟩ hl _ hheap X'
  exact ⟨t, step t a1, b1⟩
theorem o_hbook (C : Cx G p l s m args meth c A y cc nL rt) {a index : Nat} {w : MS × List Int32} (hy : σ.2.1 a = some w) (hlink : Cond.fieldLink y.cls index "MaltDrums$House" "book" "LMaltDrums$Entry;" ∈ lw_all) (d : decode cc pc = .ok (.getfield index, 3)) (kk : ∀ b : Option Nat, (b = none ↔ w.2 = []) → ∀ σ1, σ1 = oBk σ b w.2 → AW G p l e (aRm k K (10 * K)) s m args below meth c A nL Q (OW h0 n0 u0 E K σ1) (pc + 3) L (va_rf b :: st)) : AW G p l e (aRm k K (10 * K)) s m args below meth c A nL Q (OW h0 n0 u0 E K σ) pc L (.ref a :: st) := by
  refine a_open fun h n u hV => ?_
  obtain ⟨b, fs, e1, e2, e3, e4⟩ := OW.book hV hy
  refine a_getf C (ref := "MaltDrums$House") (v := va_rf b) in_X2 (ci := 1) rfl 9 (by decide) hlink rfl (fun h' n' u' hI => by obtain ⟨rfl, rfl, rfl⟩ := hI; exact ⟨fs, e1, e2⟩) d ?_
  exact a_world (fun h' n' u' hI => by obtain ⟨rfl, rfl, rfl⟩ := hI; exact e4) (kk b e3 _ rfl)
theorem o_hbookN (C : Cx G p l s m args meth c A y cc nL rt) {a index : Nat} {host : String} {w : MS × List Int32} (hy : σ.2.1 a = some w) (hlink : Cond.fieldLinkNest y.cls index "MaltDrums$House" "book" "LMaltDrums$Entry;" host ∈ lw_tbl) (d : decode cc pc = .ok (.getfield index, 3)) (kk : ∀ b : Option Nat, (b = none ↔ w.2 = []) → ∀ σ1, σ1 = oBk σ b w.2 → AW G p l e (aRm k K (10 * K)) s m args below meth c A nL Q (OW h0 n0 u0 E K σ1) (pc + 3) L (va_rf b :: st)) : AW G p l e (aRm k K (10 * K)) s m args below meth c A nL Q (OW h0 n0 u0 E K σ) pc L (.ref a :: st) := by
  refine a_open fun h n u hV => ?_
  obtain ⟨b, fs, e1, e2, e3, e4⟩ := OW.book hV hy
  refine a_getfN C (ref := "MaltDrums$House") (v := va_rf b) in_X2 (ci := 1) rfl 9 (by decide) hlink rfl (fun h' n' u' hI => by obtain ⟨rfl, rfl, rfl⟩ := hI; exact ⟨fs, e1, e2⟩) d ?_
  exact a_world (fun h' n' u' hI => by obtain ⟨rfl, rfl, rfl⟩ := hI; exact e4) (kk b e3 _ rfl)
end ORows3
