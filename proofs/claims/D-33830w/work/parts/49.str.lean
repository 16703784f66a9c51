set_option maxRecDepth 100000
/-! STRINGS THAT ARE CONSTANTS: fields and bytes that nobody writes; equals, hashCode -/
section StrK
variable {G : aG} {p : Program} {l : Launch} {e : Env} {R : Room} {s : State} {m : MethodId} {args : Array Value} {below : List Frame} {meth : Method} {c : Code} {A : Nat → Prop} {y : MethodName} {cc : ByteArray} {nL : Nat} {rt : Option FieldType} {Q : State → Prop} {V : aWd} {pc : Nat} {L : List (Option Value)} {st : List Value}
theorem a_getK (C : Cx G p l s m args meth c A y cc nL rt) {o n9 d9 ref : String} {index q : Nat} {v : Value} (hE : va_OF o n9 d9 v q A s s.heap) (hlink : Cond.fieldLink y.cls index ref n9 d9 ∈ lw_all) (hsame : ref = o) (d : decode cc pc = .ok (.getfield index, 3)) (kk : AW G p l e R s m args below meth c A nL Q V (pc + 3) L (v :: st)) : AW G p l e R s m args below meth c A nL Q V pc L (.ref q :: st) :=
  fun h n u hV H locs ls hz hu hR hA hS hl => vk_getf C.exec C.2.1 hE hS C.own (C.ts _ hlink) (by subst hsame; exact fun _ h => h) d (kk h n u hV H locs ls hz hu hR hA hS hl)
theorem a_tbK (C : Cx G p l s m args meth c A y cc nL rt) {t N : Nat} {f : Nat → Value} (hT : va_T .byte t N f A s s.heap) {i : Int32} (hin : vp_in i N) {v : Value} (hv : f i.toNatClampNeg = v) (d : decode cc pc = .ok (.baload, 1)) (kk : AW G p l e R s m args below meth c A nL Q V (pc + 1) L (v :: st)) : AW G p l e R s m args below meth c A nL Q V pc L (.int i :: .ref t :: st) :=
  fun h n u hV H locs ls hz hu hR hA hS hl => va_tb C.exec C.2.1 hT hS hin hv d (kk h n u hV H locs ls hz hu hR hA hS hl)
theorem a_tlenK (C : Cx G p l s m args meth c A y cc nL rt) {t N : Nat} {f : Nat → Value} {ty : FieldType} (hT : va_T ty t N f A s s.heap) {v : Int32} (hv : Int32.ofNat N = v) (d : decode cc pc = .ok (.arraylength, 1)) (kk : AW G p l e R s m args below meth c A nL Q V (pc + 1) L (.int v :: st)) : AW G p l e R s m args below meth c A nL Q V pc L (.ref t :: st) :=
  fun h n u hV H locs ls hz hu hR hA hS hl => va_tlen C.exec C.2.1 hT hS hv d (kk h n u hV H locs ls hz hu hR hA hS hl)
theorem a_acmpNeK (C : Cx G p l s m args meth c A y cc nL rt) {a q : Nat} {off : Int} (tgt : Nat) (ha : ∀ h n u, V h n u → ∃ e, h a = some e) (hq : ¬ A q) (d : decode cc pc = .ok (.if_acmp .ne off, 3)) (ht : (pc : Int) + off = (tgt : Int)) (kk : AW G p l e R s m args below meth c A nL Q V tgt L st) : AW G p l e R s m args below meth c A nL Q V pc L (.ref q :: .ref a :: st) := by
  intro h n u hV H locs ls hz hu hR hA hS hl
  obtain ⟨e9, he⟩ := ha h n u hV
  exact lv_acmp_ne (rx := some a) (ry := some q) C.exec C.2.1 d ht (fun _ => kk h n u hV H locs ls hz hu hR hA hS hl) (fun z => absurd (hA a e9 he) (by rw [Option.some.inj z]; exact hq))
theorem a_instK (C : Cx G p l s m args meth c A y cc nL rt) {ci a index : Nat} {r : vw_C} (hc : aCl[ci]? = some r) (hO : va_O r.1 a A s s.heap) (hlink : Cond.classLink y.cls index r.1 ∈ lw_all) (d : decode cc pc = .ok (.instanceof index, 3)) (kk : AW G p l e R s m args below meth c A nL Q V (pc + 3) L (.int 1 :: st)) : AW G p l e R s m args below meth c A nL Q V pc L (.ref a :: st) :=
  fun h n u hV H locs ls hz hu hR hA hS hl => va_instS C.exec C.2.1 C.own (C.ts _ hlink) (C.K.1.1 ci _ hc).2 (va_Orecv hO hS) d (kk h n u hV H locs ls hz hu hR hA hS hl)
theorem a_castK (C : Cx G p l s m args meth c A y cc nL rt) {ci a index : Nat} {r : vw_C} (hc : aCl[ci]? = some r) (hO : va_O r.1 a A s s.heap) (hlink : Cond.classLink y.cls index r.1 ∈ lw_all) (d : decode cc pc = .ok (.checkcast index, 3)) (kk : AW G p l e R s m args below meth c A nL Q V (pc + 3) L (.ref a :: st)) : AW G p l e R s m args below meth c A nL Q V pc L (.ref a :: st) :=
  fun h n u hV H locs ls hz hu hR hA hS hl => va_castS C.exec C.2.1 C.own (C.ts _ hlink) (C.K.1.1 ci _ hc).2 (va_Orecv hO hS) d (kk h n u hV H locs ls hz hu hR hA hS hl)
end StrK
theorem ofN1 : Int32.ofNat 1 = 1 := by decide
theorem sg_J18_equals : aSig yJ18_equals 2 := by decide +kernel
theorem sg_J5_equals : aSig yJ5_equals 1 := by decide +kernel
theorem s_end0 {s : State} {n0 u0 : Nat} {h0 h : AH} {n u : Nat} (hs : s.heap.size = n0 ∧ slT s.heap = u0) (hV : aIs h0 n0 u0 h n u) : n ≤ s.heap.size + 0 ∧ u ≤ slT s.heap + 0 := by
  obtain ⟨-, rfl, rfl⟩ := hV
  obtain ⟨rfl, rfl⟩ := hs
  exact ⟨Nat.le_refl _, Nat.le_refl _⟩
theorem ct_J18_equals (l : Launch) (G : aG) (i v : Nat) (x : String × Nat × String × List Int32) (ch : Int32) (f : Nat → Int32) (hx : aStrs[i]? = some x) (hb : x.2.2.2 = [ch]) (h0 : AH) (n0 u0 : Nat) (hv : h0 v = some (.inl (2, 1, .inl f))) : CT l yJ18_equals (ws_ yJ18_equals cJ18_equals 3 (some .boolean)) 1 G [.ref v, .ref (G.2.2 (101 + i))] h0 n0 u0 0 0 (s_pi (fun r => r = if f 0 = ch then 1 else 0) h0 n0 u0) := by
  refine CT.intro [some (.ref v), some (.ref (G.2.2 (101 + i))), none] pn_RJ18 rfl (Nat.le_of_ble_eq_true rfl) ?_
  intro p e s m args below meth c C hz hu
  have hs : s.heap.size = n0 ∧ slT s.heap = u0 := ⟨hz, hu⟩
  obtain ⟨-, -, -, -, hT⟩ := C.SC.2.2.2.2.2.2 i x hx
  rw [hb] at hT
  have hin : vp_in 0 1 := by rintro (z | z) <;> revert z <;> decide
  refine a_aload_0 (pc := 0) C dJ18_equals_0 ?_
  refine a_alen (pc := 1) C (kd := 2) (v := 1) (x := (1, .inl f)) (by rintro _ _ _ ⟨rfl, rfl, rfl⟩; exact hv) (fun _ => rfl) ofN1 dJ18_equals_1 ?_
  refine a_aload_1 (pc := 2) C dJ18_equals_2 ?_
  refine a_tlenK (pc := 3) C hT (v := 1) ofN1 dJ18_equals_3 ?_
  refine a_icmp_ne (pc := 4) C 34 dJ18_equals_4 (by decide) (fun z => absurd rfl z) (fun _ => ?_)
  refine a_iconst (pc := 7) C dJ18_equals_7 ic_0 ?_
  refine a_istore_2 (pc := 8) C dJ18_equals_8 (by decide) rfl ?_
  refine a_iload_2 (pc := 9) C dJ18_equals_9 ?_
  refine a_aload_0 (pc := 10) C dJ18_equals_10 ?_
  refine a_alen (pc := 11) C (kd := 2) (v := 1) (x := (1, .inl f)) (by rintro _ _ _ ⟨rfl, rfl, rfl⟩; exact hv) (fun _ => rfl) ofN1 dJ18_equals_11 ?_
  refine a_icmp_ge (pc := 12) C 32 dJ18_equals_12 (by decide) (fun z => absurd z (by decide)) (fun _ => ?_)
  refine a_aload_0 (pc := 15) C dJ18_equals_15 ?_
  refine a_iload_2 (pc := 16) C dJ18_equals_16 ?_
  refine a_bald (pc := 17) C (f := f) (n0 := 1) (by rintro _ _ _ ⟨rfl, rfl, rfl⟩; exact hv) hin dJ18_equals_17 ?_
  refine a_aload_1 (pc := 18) C dJ18_equals_18 ?_
  refine a_iload_2 (pc := 19) C dJ18_equals_19 ?_
  refine a_tbK (pc := 20) C hT hin (v := .int ch) rfl dJ18_equals_20 ?_
  refine a_icmp_eq (pc := 21) C 26 dJ18_equals_21 (by decide) (fun z => ?_) (fun z => ?_)
  · refine a_iinc_2 (pc := 26) (v := 1) C dJ18_equals_26 (by decide) (by decide) rfl ?_
    refine a_goto (pc := 29) C 9 dJ18_equals_29 (by decide) ?_
    refine a_iload_2 (pc := 9) C dJ18_equals_9 ?_
    refine a_aload_0 (pc := 10) C dJ18_equals_10 ?_
    refine a_alen (pc := 11) C (kd := 2) (v := 1) (x := (1, .inl f)) (by rintro _ _ _ ⟨rfl, rfl, rfl⟩; exact hv) (fun _ => rfl) ofN1 dJ18_equals_11 ?_
    refine a_icmp_ge (pc := 12) C 32 dJ18_equals_12 (by decide) (fun _ => ?_) (fun z => absurd (by decide) z)
    refine a_iconst (pc := 32) C dJ18_equals_32 ic_1 ?_
    have z : f 0 = ch := z
    exact a_zret rfl C dJ18_equals_33 (fun h n u hV => ⟨⟨1, rfl, (if_pos z).symm, hV⟩, s_end0 hs hV⟩)
  · refine a_iconst (pc := 24) C dJ18_equals_24 ic_0 ?_
    have z : ¬ f 0 = ch := z
    exact a_zret rfl C dJ18_equals_25 (fun h n u hV => ⟨⟨0, rfl, (if_neg z).symm, hV⟩, s_end0 hs hV⟩)
theorem ct_J5_equals (l : Launch) (G : aG) (i a v : Nat) (x : String × Nat × String × List Int32) (ch hsh hz0 : Int32) (f : Nat → Int32) (hx : aStrs[i]? = some x) (hb : x.2.2.2 = [ch]) (h0 : AH) (n0 u0 : Nat) (ha : h0 a = some (.inr (11, [.ref v, .int 0, .int hsh, .int hz0]))) (hv : h0 v = some (.inl (2, 1, .inl f))) : CT l yJ5_equals (ws_ yJ5_equals cJ5_equals 3 (some .boolean)) 2 G [.ref a, .ref (G.2.2 (1 + i))] h0 n0 u0 0 0 (s_pi (fun r => r = if f 0 = ch then 1 else 0) h0 n0 u0) := by
  refine CT.intro [some (.ref a), some (.ref (G.2.2 (1 + i))), none] pn_RJ5 rfl (Nat.le_of_ble_eq_true rfl) ?_
  intro p e s m args below meth c C hz hu
  have hs : s.heap.size = n0 ∧ slT s.heap = u0 := ⟨hz, hu⟩
  obtain ⟨-, hO, hco, hva, hT⟩ := C.SC.2.2.2.2.2.2 i x hx
  have hnA : ¬ a_A h0 n0 (G.2.2 (1 + i)) := by obtain ⟨_, _, _, _, h⟩ := hO; exact h
  refine a_aload_0 (pc := 0) C dJ5_equals_0 ?_
  refine a_aload_1 (pc := 1) C dJ5_equals_1 ?_
  refine a_acmpNeK (pc := 2) C 7 (by rintro _ _ _ ⟨rfl, rfl, rfl⟩; exact ⟨_, ha⟩) hnA dJ5_equals_2 (by decide) ?_
  refine a_aload_1 (pc := 7) C dJ5_equals_7 ?_
  refine a_instK (pc := 8) C (ci := 11) rfl hO q812 dJ5_equals_8 ?_
  refine a_if_eq (pc := 11) C 54 dJ5_equals_11 (by decide) (fun z => absurd z (by decide)) (fun _ => ?_)
  refine a_aload_1 (pc := 14) C dJ5_equals_14 ?_
  refine a_castK (pc := 15) C (ci := 11) rfl hO q812 dJ5_equals_15 ?_
  refine a_astore_2 (pc := 18) C dJ5_equals_18 (by decide) rfl ?_
  refine a_gets (pc := 19) C C.SC.1 q424 rfl dJ5_equals_19 ?_
  refine a_if_eq (pc := 22) C 36 dJ5_equals_22 (by decide) (fun z => absurd z (by decide)) (fun _ => ?_)
  refine a_aload_0 (pc := 25) C dJ5_equals_25 ?_
  refine a_getf (pc := 26) C (ref := "java/lang/String") (v := .int 0) in_J5 (ci := 11) rfl 1 (by decide) q602 rfl (by rintro _ _ _ ⟨rfl, rfl, rfl⟩; exact ⟨_, ha, rfl⟩) dJ5_equals_26 ?_
  refine a_aload_2 (pc := 29) C dJ5_equals_29 ?_
  refine a_getK (pc := 30) C hco q602 rfl dJ5_equals_30 ?_
  refine a_icmp_ne (pc := 33) C 54 dJ5_equals_33 (by decide) (fun z => absurd rfl z) (fun _ => ?_)
  refine a_aload_0 (pc := 36) C dJ5_equals_36 ?_
  refine a_getf (pc := 37) C (ref := "java/lang/String") (v := .ref v) in_J5 (ci := 11) rfl 0 (by decide) q601 rfl (by rintro _ _ _ ⟨rfl, rfl, rfl⟩; exact ⟨_, ha, rfl⟩) dJ5_equals_37 ?_
  refine a_aload_2 (pc := 40) C dJ5_equals_40 ?_
  refine a_getK (pc := 41) C hva q601 rfl dJ5_equals_41 ?_
  refine a_callS (pc := 44) C (vs := [.ref v, .ref (G.2.2 (101 + i))]) (st := []) (X := Int32) (fun x => some (.int x)) (fun r => r = if f 0 = ch then 1 else 0) (fun _ => aIs h0 n0 u0) (mc := 0) (ms := 0) (k1 := 1) (by decide) (by decide) (by rintro _ _ _ ⟨rfl, rfl, rfl⟩; exact (ct_J18_equals l G i v x ch f hx hb _ _ _ hv).post fun r h1 n1 u1 qq => by obtain ⟨x, e1, e2, e3⟩ := qq; exact ⟨x, e1, e2, e3⟩) (lw_S q813 q814 q92 q815) sg_J18_equals (fun h n u hV => s_end0 hs hV) (Nat.le_of_ble_eq_true rfl) dJ5_equals_44 (fun r hr => ?_)
  show AW G p l e (aRm 2 0 0) s m args below meth c (a_A h0 n0) 3 _ (aIs h0 n0 u0) 47 _ [.int r]
  by_cases z : f 0 = ch
  · rw [if_pos z] at hr
    subst hr
    refine a_if_eq (pc := 47) C 54 dJ5_equals_47 (by decide) (fun z => absurd z (by decide)) (fun _ => ?_)
    refine a_iconst (pc := 50) C dJ5_equals_50 ic_1 ?_
    refine a_goto (pc := 51) C 55 dJ5_equals_51 (by decide) ?_
    exact a_zret rfl C dJ5_equals_55 (fun h n u hV => ⟨⟨1, rfl, (if_pos z).symm, hV⟩, s_end0 hs hV⟩)
  · rw [if_neg z] at hr
    subst hr
    refine a_if_eq (pc := 47) C 54 dJ5_equals_47 (by decide) (fun _ => ?_) (fun z => absurd rfl z)
    refine a_iconst (pc := 54) C dJ5_equals_54 ic_0 ?_
    exact a_zret rfl C dJ5_equals_55 (fun h n u hV => ⟨⟨0, rfl, (if_neg z).symm, hV⟩, s_end0 hs hV⟩)
/-- the empty String's hash -/
theorem ct_hash0 (l : Launch) (G : aG) (h0 : AH) (n0 u0 : Nat) : CT l yJ5_hashCode (ws_ yJ5_hashCode cJ5_hashCode 2 (some .int)) 1 G [.ref (G.2.2 1)] h0 n0 u0 0 0 (s_pi (fun r => r = 0) h0 n0 u0) := by
  refine CT.intro [some (.ref (G.2.2 1)), none] pn_RJ5 rfl (Nat.le_of_ble_eq_true rfl) ?_
  intro p e s m args below meth c C hz hu
  have hs : s.heap.size = n0 ∧ slT s.heap = u0 := ⟨hz, hu⟩
  refine a_aload_0 (pc := 0) C dJ5_hashCode_0 ?_
  refine a_getK (pc := 1) C C.SC.2.2.2.2.2.1.1 q603 rfl dJ5_hashCode_1 ?_
  refine a_istore_1 (pc := 4) C dJ5_hashCode_4 (by decide) rfl ?_
  refine a_iload_1 (pc := 5) C dJ5_hashCode_5 ?_
  refine a_if_ne (pc := 6) C 58 dJ5_hashCode_6 (by decide) (fun z => absurd rfl z) (fun _ => ?_)
  refine a_aload_0 (pc := 9) C dJ5_hashCode_9 ?_
  refine a_getK (pc := 10) C C.SC.2.2.2.2.2.1.2 q604 rfl dJ5_hashCode_10 ?_
  refine a_if_ne (pc := 13) C 58 dJ5_hashCode_13 (by decide) (fun _ => ?_) (fun z => absurd z (by decide))
  refine a_iload_1 (pc := 58) C dJ5_hashCode_58 ?_
  exact a_iret C dJ5_hashCode_59 (fun h n u hV => ⟨⟨0, rfl, rfl, hV⟩, s_end0 hs hV⟩)
section StrO
variable {G : aG} {p : Program} {l : Launch} {e : Env} {R : Room} {s : State} {m : MethodId} {args : Array Value} {below : List Frame} {meth : Method} {c : Code} {A : Nat → Prop} {y : MethodName} {cc : ByteArray} {nL : Nat} {rt : Option FieldType} {Q : State → Prop} {V : aWd} {pc k : Nat} {L : List (Option Value)} {st : List Value} {h0 : AH} {n0 u0 K : Nat} {E : Nat → Prop} {σ : OS}
theorem o_strEq (C : Cx G p l s m args meth c A y cc nL rt) (hs : s.heap.size = n0 ∧ slT s.heap = u0) (i : Nat) {a v index : Nat} {x : String × Nat × String × List Int32} {ch hsh hz0 : Int32} {f : Nat → Int32} (hx : aStrs[i]? = some x) (hb : x.2.2.2 = [ch]) (ha : σ.1 a = some (.inr (11, [.ref v, .int 0, .int hsh, .int hz0]))) (hv : σ.1 v = some (.inl (2, 1, .inl f))) (hk : 2 < k) (hlink : Cond.methodLink y.cls index yJ5_equals ∈ lw_all) (hst : (st.map fun v => v.category).sum ≤ 8) (d : decode cc pc = .ok (.invokevirtual index, 3)) (kk : ∀ r : Int32, r = (if f 0 = ch then 1 else 0) → AW G p l e (aRm k K (10 * K)) s m args below meth c A nL Q (OW h0 n0 u0 E K σ) (pc + 3) L (.int r :: st)) : AW G p l e (aRm k K (10 * K)) s m args below meth c A nL Q (OW h0 n0 u0 E K σ) pc L (.ref (G.2.2 (1 + i)) :: .ref a :: st) :=
  a_callVC C (vs := [.ref (G.2.2 (1 + i))]) (mc := 0) (ms := 0) (k1 := 2) (ci := 11) (r0 := (RJ5, TJ5, 4)) (X := Int32) (fun x => some (.int x)) (fun r => r = if f 0 = ch then 1 else 0) (fun _ => OW h0 n0 u0 E K σ) hk (by decide) (fun h n u hV => (ct_J5_equals l G i a v x ch hsh hz0 f hx hb h n u (o_arr ha hV) (o_arr hv hV)).post fun r h1 n1 u1 qq => by obtain ⟨x, e1, e2, rfl, rfl, rfl⟩ := qq; exact ⟨x, e1, e2, hV⟩) rfl (fun h n u hV => ⟨_, o_arr ha hV⟩) q75 hlink q809 q810 (lw_meth q811) sg_J5_equals (o_room0 hs) hst d kk
theorem o_hash0 (C : Cx G p l s m args meth c A y cc nL rt) (hs : s.heap.size = n0 ∧ slT s.heap = u0) {index : Nat} (hk : 1 < k) (hlink : Cond.methodLink y.cls index yJ5_hashCode ∈ lw_all) (hst : (st.map fun v => v.category).sum ≤ 8) (d : decode cc pc = .ok (.invokevirtual index, 3)) (kk : AW G p l e (aRm k K (10 * K)) s m args below meth c A nL Q (OW h0 n0 u0 E K σ) (pc + 3) L (.int 0 :: st)) : AW G p l e (aRm k K (10 * K)) s m args below meth c A nL Q (OW h0 n0 u0 E K σ) pc L (.ref (G.2.2 1) :: st) := by
  intro h n u hV H locs ls hz hu hR hA hS hl
  obtain ⟨r1, r2⟩ := o_room0 hs h n u hV
  have hS1 := hS.1
  have hO : va_O RJ5 (G.2.2 1) A s s.heap := (C.SC.2.2.2.2.2.2 0 _ rfl).2.1
  refine W_sized fun w1 w2 w3 w4 => ?_
  have cw : CallW (aRm k K (10 * K)) s args y.cls RJ5 index yJ5_hashCode cJ5_hashCode 2 (some .int) (ws_ yJ5_hashCode cJ5_hashCode 2 (some .int)) (aRm 1 0 0) 0 0 0 := ⟨callB_of 0 C.ts (lw_meth q749) rfl rfl rfl (C.ts _ q75) (C.ts _ hlink) ⟨sg_J5_hashCode.1, sg_J5_hashCode.2.1, sg_J5_hashCode.2.2⟩ ⟨by show 1 + 1 ≤ k; omega, by show 8 + (2 + 11) + 48 * 1 ≤ 48 * k; omega⟩, C.ts _ q747, C.ts _ q748⟩
  refine a_run (L := L) (post := s_pi (fun r => r = 0) h n u) (va_runV ⟨C.exec, C.2.1, C.maxL, C.own, C.ts⟩ (ct_hash0 l G h n u C.fl) cw ⟨a_Pc.blind, va_Orecv hO hS, a_start C hz hu hR hA hS⟩ rfl rfl hl.1 (As := []) rfl (lv_room hst) d ⟨by show n - s.heap.size + 0 ≤ K; omega, by show u - slT s.heap + 0 ≤ 10 * K; omega⟩) hS hl (a_sub C hz hA hS) ?_
  rintro r h1 n1 u1 ⟨x, rfl, rfl, rfl, rfl, rfl⟩
  exact a_world (fun h n u q => by obtain ⟨rfl, rfl, rfl⟩ := q; exact hV) kk
end StrO
