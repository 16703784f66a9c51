set_option maxRecDepth 100000
/-! ROWS FOR A LIST's GROWTH -/
section ALRows
variable {G : aG} {p : Program} {l : Launch} {e : Env} {R : Room} {s : State} {m : MethodId} {args : Array Value} {below : List Frame} {meth : Method} {c : Code} {A : Nat → Prop} {y : MethodName} {cc : ByteArray} {nL : Nat} {rt : Option FieldType} {Q : State → Prop} {V V1 : aWd} {pc : Nat} {L : List (Option Value)} {st : List Value}
theorem a_acmpNeSame (C : Cx G p l s m args meth c A y cc nL rt) {a : Nat} {off : Int} (d : decode cc pc = .ok (.if_acmp .ne off, 3)) (ht : (pc : Int) + off = (((pc : Int) + off).toNat : Int)) (kk : AW G p l e R s m args below meth c A nL Q V (pc + 3) L st) : AW G p l e R s m args below meth c A nL Q V pc L (.ref a :: .ref a :: st) :=
  fun h n u hV H locs ls hz hu hR hA hS hl => lv_acmp_ne (rx := some a) (ry := some a) C.exec C.2.1 d ht (fun z => absurd rfl z) (fun _ => kk h n u hV H locs ls hz hu hR hA hS hl)
theorem a_acmpEqSame (C : Cx G p l s m args meth c A y cc nL rt) {a : Nat} {off : Int} (tgt : Nat) (d : decode cc pc = .ok (.if_acmp .eq off, 3)) (ht : (pc : Int) + off = (tgt : Int)) (kk : AW G p l e R s m args below meth c A nL Q V tgt L st) : AW G p l e R s m args below meth c A nL Q V pc L (.ref a :: .ref a :: st) :=
  fun h n u hV H locs ls hz hu hR hA hS hl => lv_acmp_eq (rx := some a) (ry := some a) C.exec C.2.1 d ht (fun _ => kk h n u hV H locs ls hz hu hR hA hS hl) (fun z => absurd rfl z)
theorem a_ldcM (C : Cx G p l s m args meth c A y cc nL rt) {index : Nat} (hlink : Cond.classLink y.cls index "[Ljava/lang/Object;" ∈ lw_all) (d : decode cc pc = .ok (.ldc index, 2)) (kk : AW G p l e R s m args below meth c A nL Q V (pc + 2) L (.ref (G.2.2 200) :: st)) : AW G p l e R s m args below meth c A nL Q V pc L st :=
  fun h n u hV H locs ls hz hu hR hA hS hl => va_ldcM C.exec C.2.1 C.own (C.ts _ hlink) C.K.2.2.2.2.2.2 d (kk h n u hV H locs ls hz hu hR hA hS hl)
theorem a_getC (C : Cx G p l s m args meth c A y cc nL rt) {a index n0 k MC MS : Nat} {f : Nat → Option Nat} (hv : ∀ h n u, V h n u → h a = some (.inl (3, n0, .inr (.inr (.inr (.inr f)))))) (hk : 1 ≤ k) (hlink : Cond.methodLink y.cls index ⟨"java/lang/Object", "getClass", "()Ljava/lang/Class;"⟩ ∈ lw_all) (hst : (st.map fun v => v.category).sum ≤ 8) (d : decode cc pc = .ok (.invokevirtual index, 3)) (kk : AW G p l e (aRm k MC MS) s m args below meth c A nL Q V (pc + 3) L (.ref (G.2.2 200) :: st)) : AW G p l e (aRm k MC MS) s m args below meth c A nL Q V pc L (.ref a :: st) := by
  intro h n u hV H locs ls hz hu hR hA hS hl
  have hc : H[a]? = some (vp_cell (G.2.1 3) (n0, .inr (.inr (.inr (.inr f))))) := hR a _ (hv h n u hV)
  have hcl : s.vm.findClass "[Ljava/lang/Object;" = some (G.2.1 3) := by
    obtain ⟨kA', comp', g1, g2, g3, g4⟩ := (C.K.1.2 3 (G.2.1 3, .object "java/lang/Object") rfl).2
    exact g4
  exact va_getC C.exec C.2.1 (by rw [C.maxL]; exact hl.1.symm) C.own (C.ts _ hlink) (va_Nw.use rfl (C.K.2.1 _ q2230 rfl)) (C.ts _ q2229) (C.ts _ q927) (C.ts _ q948) C.K.2.2.2.2.2.2 ⟨_, hc, rfl, hcl⟩ hk (by show (st.map fun v => v.category).sum + 14 ≤ 48 * k; omega) d (kk h n u hV H locs ls hz hu hR hA hS hl)
theorem a_getfS (C : Cx G p l s m args meth c A y cc nL rt) {ref C0 : String} {T : u_T} {N ci index a : Nat} {v : Value} (hin : ∀ w ∈ u_ws C0 T N, w ∈ lw_all) (hc : aCl[ci]? = some (C0, T, N)) (k : Nat) (hk : k < N) (hlink : Cond.fieldLink y.cls index ref (T k).2.1 (T k).2.2.1 ∈ lw_all) (hsame : Cond.sameField ref (T k).1 (T k).2.1 (T k).2.2.1 ∈ lw_all) (hv : ∀ h n u, V h n u → ∃ fs, h a = some (.inr (ci, fs)) ∧ fs[k]? = some v) (d : decode cc pc = .ok (.getfield index, 3)) (kk : AW G p l e R s m args below meth c A nL Q V (pc + 3) L (v :: st)) : AW G p l e R s m args below meth c A nL Q V pc L (.ref a :: st) := by
  intro h n u hV H locs ls hz hu hR hA hS hl
  obtain ⟨fs, e1, e2⟩ := hv h n u hV
  exact va_get C.exec C.2.1 C.ts hin C.own C.K.1 (hR.one e1) 0 rfl hc k hk (C.ts _ hlink) (fun x hx => u_same (C.ts _ hsame) x hx) e2 d (kk h n u hV H locs ls hz hu hR hA hS hl)
theorem a_putfS (C : Cx G p l s m args meth c A y cc nL rt) {ref C0 : String} {T : u_T} {N ci index a : Nat} {v : Value} (hin : ∀ w ∈ u_ws C0 T N, w ∈ lw_all) (ty0 : Nat → FieldType) (hty : ∀ k, k < N → parseFieldDescriptor (T k).2.2.1 = some (ty0 k)) (hnm : ∀ a, a < N → ∀ b, b < N → a ≠ b → (T a).2.1 ≠ (T b).2.1) (hc : aCl[ci]? = some (C0, T, N)) (k : Nat) (hk : k < N) (hlink : Cond.fieldLink y.cls index ref (T k).2.1 (T k).2.2.1 ∈ lw_all) (hsame : Cond.sameField ref (T k).1 (T k).2.1 (T k).2.2.1 ∈ lw_all) (hfin : (T k).2.2.2 = false) (hn : narrow (ty0 k) v = v) (hfit : fits (ty0 k) v = true) (hv : ∀ h n u, V h n u → ∃ fs, h a = some (.inr (ci, fs)) ∧ k < fs.length ∧ V1 (a_up h a (.inr (ci, fs.set k v))) n u) (d : decode cc pc = .ok (.putfield index, 3)) (kk : AW G p l e R s m args below meth c A nL Q V1 (pc + 3) L st) : AW G p l e R s m args below meth c A nL Q V pc L (v :: .ref a :: st) := by
  intro h n u hV H locs ls hz hu hR hA hS hl
  obtain ⟨fs, e1, e2, e3⟩ := hv h n u hV
  have hap := va_apart (own := y.cls) C.ts hin ty0 hty hnm C.K.1 hc
  obtain ⟨r, h1, cell, q1, q2, q3, q4⟩ := hR a _ e1
  have hr : r = (C0, T, N) := Option.some.inj (h1.symm.trans hc)
  subst hr
  obtain ⟨hSl, hfc, kC, hkC, hkind⟩ := C.K.1.1 ci _ hc
  obtain ⟨cf, kf, fi, f, hi, hsl⟩ := hSl k hk
  have hlay := C.ts _ (hin _ (u_in_lay hk))
  unfold u_lay at hlay
  rw [if_neg (by rw [hfin]; decide)] at hlay
  have hst := (u_facts hfc hkC (u_lays C.ts hin hk) hi).1
  have h6 := u_store hfc hkC hkind hlay hi (hty k hk) hn hfit
  refine W.putK C.exec C.2.1 (f := f) ⟨C.own, C.ts _ hlink, ⟨_, _, _, u_same (C.ts _ hsame) _ hi⟩, hst⟩ (by rw [q2]; exact h6) q1 q3 (by rw [hsl]; exact k2_hasslot (q4 k hk)) rfl rfl d fun H1 g1 g2 g3 => ?_
  rw [hsl] at g1 ⊢
  exact a_after (V1 := V1) hz hu hR hA hS hl e1 e3 q1 g1 (a_setSlot_size _ _ _) ⟨_, hc, t_OB.to (V := updV (vp_V fs) k v) ⟨_, g1, q2, q3, t_set q4 hap hk v⟩ (fun j _ => vp_updV_set e2 v j)⟩ g2 g3 kk
/-- System.arraycopy of references to objects of the class ci -/
theorem a_copyQ (C : Cx G p l s m args meth c A y cc nL rt) {ci : Nat} {r0 : vw_C} (hcc : aCl[ci]? = some r0) (hca : Cond.castable r0.1 "java/lang/Object" ∈ lw_tbl) {kf MC MS index a0 a n0 n1 : Nat} {f g : Nat → Option Nat} {sp dp n : Int32} (hv : ∀ h n9 u, V h n9 u → h a0 = some (.inl (3, n0, .inr (.inr (.inr (.inr f))))) ∧ h a = some (.inl (3, n1, .inr (.inr (.inr (.inr g))))) ∧ (∀ i, i < n.toNatClampNeg → ∀ z, f (sp.toNatClampNeg + i) = some z → ∃ fs, h z = some (.inr (ci, fs))) ∧ V1 (a_up h a (.inl (3, n1, .inr (.inr (.inr (.inr (va_cpy f g sp.toNatClampNeg dp.toNatClampNeg n.toNatClampNeg))))))) n9 u)
    (h1 : ¬ sp < 0) (h2 : ¬ dp < 0) (h3 : ¬ n < 0) (h4 : sp.toNatClampNeg + n.toNatClampNeg ≤ n0) (h5 : dp.toNatClampNeg + n.toNatClampNeg ≤ n1) (hk : 1 ≤ kf) (hlink : Cond.methodLink y.cls index arraycopyName ∈ lw_all) (hst : (st.map fun v => v.category).sum ≤ 8) (d : decode cc pc = .ok (.invokestatic index, 3))
    (kk : AW G p l e (aRm kf MC MS) s m args below meth c A nL Q V1 (pc + 3) L st) : AW G p l e (aRm kf MC MS) s m args below meth c A nL Q V pc L (.int n :: .int dp :: .ref a :: .int sp :: .ref a0 :: st) := by
  intro h n9 u hV H locs ls hz hu hR hA hS hl
  obtain ⟨ea0, ea, eel, eV⟩ := hv h n9 u hV
  have nn : ∀ z : Int32, ¬ z < 0 → z.toInt = (z.toNatClampNeg : Int) := by
    intro z hz
    have hz0 : (0 : Int) ≤ z.toInt := by
      have := Int32.not_lt.mp hz
      simpa using Int32.le_iff_toInt_le.mp this
    show z.toInt = ((z.toInt.toNat : Nat) : Int)
    omega
  have hnat : (Cond.native arraycopyName).before args s = true := C.ts _ q384
  have hstat : (Cond.static arraycopyName).before args s = true := C.ts _ q383
  have hini : (Cond.initialized "java/lang/System").before args s = true := C.ts _ q85
  have hc0 : H[a0]? = some (vp_cell (G.2.1 3) (n0, .inr (.inr (.inr (.inr f))))) := hR a0 _ ea0
  have hc1 : H[a]? = some (vp_cell (G.2.1 3) (n1, .inr (.inr (.inr (.inr g))))) := hR a _ ea
  have ht1 : (aTys G)[3]? = some (G.2.1 3, .object "java/lang/Object") := rfl
  obtain ⟨-, k0, hk0, cm0, hkk0⟩ := (C.K.1.2 3 _ ht1).1 n0 (fun j => va_rf (f j))
  obtain ⟨-, k1, hk1, cm1, hkk1⟩ := (C.K.1.2 3 _ ht1).1 n1 (fun j => va_rf (g j))
  obtain ⟨cX, tX, f1, f2, f3⟩ := Cond.castable_spec (va_Nw.use (A := args) rfl (C.K.2.1 _ hca rfl))
  intro T hT X
  obtain ⟨vm', X', step⟩ := X.arraycopy C.exec C.own (C.ts _ hlink) hnat hstat hini (src := a0) (dst := a) (cs := vp_cell (G.2.1 3) (n0, .inr (.inr (.inr (.inr f))))) (cd := vp_cell (G.2.1 3) (n1, .inr (.inr (.inr (.inr g))))) (srcPos := sp) (destPos := dp) (n := n) (by rw [hT]; exact hc0) (by rw [hT]; exact hc1)
    (fun _ h => by cases h) (fun _ h => by cases h) (fun h => by cases h) (fun h => by cases h) hk0 hk1 hkk0 hkk1 rfl h1 h2 h3
    (by rw [nn sp h1, nn n h3]; show ¬ _ > ((arrV (G.2.1 3) n0 (fun j => va_rf (f j))).slots.size : Int); rw [arrV_size]; omega)
    (by rw [nn dp h2, nn n h3]; show ¬ _ > ((arrV (G.2.1 3) n1 (fun j => va_rf (g j))).slots.size : Int); rw [arrV_size]; omega)
    (fun vm₁ hal i hi => by
      have e : (vp_cell (G.2.1 3) (n0, .inr (.inr (.inr (.inr f))))).slots.getD (sp.toNatClampNeg + i) .null = va_rf (f (sp.toNatClampNeg + i)) := by
        show (arrV (G.2.1 3) n0 (fun j => va_rf (f j))).slots.getD _ _ = _
        rw [Array.getD_eq_getD_getElem?, arrV_read _ _ (by omega)]
        rfl
      rw [e]
      cases hy : f (sp.toNatClampNeg + i) with
      | none => exact ⟨rfl, trivial⟩
      | some y9 =>
        obtain ⟨fs9, hfs⟩ := eel i hi y9 hy
        obtain ⟨cellV, g1, g2, g3⟩ := a_recv C.K hR hfs hcc rfl
        obtain ⟨kA, comp, r1, r2, r3, -⟩ := (C.K.1.2 3 _ ht1).2
        cases hk1.symm.trans r1
        cases hkk1.symm.trans r2
        obtain ⟨kC, hkC, -⟩ := Vm.findClass_spec g3
        obtain ⟨kE, hkE, -⟩ := Vm.findClass_spec r3
        obtain ⟨kC', hkC', -⟩ := hal.2.2 _ _ hkC
        obtain ⟨kE', hkE', -⟩ := hal.2.2 _ _ hkE
        refine ⟨rfl, cellV, (show T.heap[y9]? = some cellV by rw [hT]; exact g1), (fun q h => by rw [h] at g2; cases g2), ⟨kC', hkC'⟩, ?_, ?_⟩
        · exact ⟨kE', hkE'⟩
        · show vm₁.assignable _ _ = true
          rw [hal.assignable]
          cases f1.symm.trans g3
          cases f2.symm.trans r3
          exact f3)
    (g := F0 m pc ls (.int n :: .int dp :: .ref a :: .int sp :: .ref a0 :: st)) rfl (by rw [C.maxL]; exact hl.1) (rest := st) rfl (by rw [C.2.1]; exact d) hk (ac_room hk hst)
  have e1 : copied (vp_cell (G.2.1 3) (n0, .inr (.inr (.inr (.inr f))))) (vp_cell (G.2.1 3) (n1, .inr (.inr (.inr (.inr g))))) sp dp n = vp_cell (G.2.1 3) (n1, .inr (.inr (.inr (.inr (va_cpy f g sp.toNatClampNeg dp.toNatClampNeg n.toNatClampNeg))))) := by
    rw [vp_cell_q, vp_cell_q, vp_cell_q]
    exact va_copied (fun z => va_rf z) (G.2.1 3) (G.2.1 3) f g h4
  rw [e1] at X' step
  generalize hZ : vp_cell (G.2.1 3) (n1, .inr (.inr (.inr (.inr (va_cpy f g sp.toNatClampNeg dp.toNatClampNeg n.toNatClampNeg))))) = Z at X' step
  have hlt : a < H.size := (Array.getElem?_eq_some_iff.mp hc1).1
  have hheap : ((T.setVm vm').setCell a Z).heap = H.setIfInBounds a Z := by rw [← hT]; rfl
  have oq : ∀ q : Nat, q ≠ a → (H.setIfInBounds a Z)[q]? = H[q]? := fun q hq => by simp [Array.getElem?_setIfInBounds, Ne.symm hq]
  have hself : (H.setIfInBounds a Z)[a]? = some Z := by simp [Array.getElem?_setIfInBounds, hlt]
  obtain ⟨t, a1, b1⟩ := kk _ n9 u eV (H.setIfInBounds a Z) _ ls (by simp [hz]) ((slT_put hc1 hself (by rw [← hZ, vp_cell_q, vp_cell_q, arrV_size, arrV_size]) oq).trans hu)
    (hR.put (show (H.setIfInBounds a Z)[a]? = some (vp_cell _ _) by rw [hself, ← hZ]) oq) (fun q f9 hq => by
      by_cases w : q = a
      · rw [w]; exact hA a _ ea
      · rw [a_up_ne w] at hq; exact hA q f9 hq) ⟨by simp; exact hS.1, fun q g1 g2 => by
      rw [oq q (fun e => g2 (by rw [e]; exact hA a _ ea))]
      exact hS.2.1 q g1 g2, fun q hq => by
      rcases List.mem_append.mp hq with h | h
      · exact hS.2.2 q h
      · obtain ⟨z, -, hz⟩ := List.mem_map.mp h
        rw [← hz]
        exact hA a _ ea⟩ hl _ hheap X'
  exact ⟨t, step t a1, b1⟩
end ALRows
