set_option maxRecDepth 100000
/-! THE BOOK's ENTRIES; note -/
section AW32
variable {G : aG} {p : Program} {l : Launch} {e : Env} {R : Room} {s : State} {m : MethodId} {args : Array Value} {below : List Frame} {meth : Method} {c : Code} {A : Nat → Prop} {y : MethodName} {cc : ByteArray} {nL : Nat} {rt : Option FieldType} {Q : State → Prop} {V V1 : aWd} {pc : Nat} {L : List (Option Value)} {st : List Value}
theorem a_callVr (C : Cx G p l s m args meth c A y cc nL rt) {y1 : MethodName} {bytes : ByteArray} {maxL k k1 mc ms MC MS index : Nat} {ret : Option FieldType} {vs : List Value} {b ci : Nat} {r0 : vw_C} {X : Type} (f : X → Value) (Pq : X → Prop) (V1 : X → aWd) (hk : k1 < k) (hm : maxL ≤ 29) (hM : ∀ h n u, V h n u → CT l y1 (ws_ y1 bytes maxL ret) k1 G (.ref b :: vs) h n u mc ms (fun r h1 n1 u1 => ∃ x, r = some (f x) ∧ Pq x ∧ V1 x h1 n1 u1)) (hc : aCl[ci]? = some r0) (hcn : r0.1 = y1.cls) (hb : ∀ h n u, V h n u → ∃ fs, h b = some (.inr (ci, fs))) (hG : GoodIn lw_all (wsV y.cls index y1.cls y1 (ws_ y1 bytes maxL ret))) (hd : aSig y1 vs.length) (hroom : ∀ h n u, V h n u → n + mc ≤ s.heap.size + MC ∧ u + ms ≤ slT s.heap + MS) (hst : (st.map fun v => v.category).sum ≤ 8) (d : decode cc pc = .ok (.invokevirtual index, 3)) (kk : ∀ x, Pq x → AW G p l e (aRm k MC MS) s m args below meth c A nL Q (V1 x) (pc + 3) L (f x :: st)) : AW G p l e (aRm k MC MS) s m args below meth c A nL Q V pc L (vs.reverse ++ .ref b :: st) :=
  a_callV C (fun x => some (f x)) Pq V1 hk hm hM hc hcn hb hG hd hroom hst d kk
theorem a_callVv (C : Cx G p l s m args meth c A y cc nL rt) {y1 : MethodName} {bytes : ByteArray} {maxL k k1 mc ms MC MS index : Nat} {ret : Option FieldType} {vs : List Value} {b ci : Nat} {r0 : vw_C} {X : Type} (Pq : X → Prop) (V1 : X → aWd) (hk : k1 < k) (hm : maxL ≤ 29) (hM : ∀ h n u, V h n u → CT l y1 (ws_ y1 bytes maxL ret) k1 G (.ref b :: vs) h n u mc ms (fun r h1 n1 u1 => ∃ x, r = none ∧ Pq x ∧ V1 x h1 n1 u1)) (hc : aCl[ci]? = some r0) (hcn : r0.1 = y1.cls) (hb : ∀ h n u, V h n u → ∃ fs, h b = some (.inr (ci, fs))) (hG : GoodIn lw_all (wsV y.cls index y1.cls y1 (ws_ y1 bytes maxL ret))) (hd : aSig y1 vs.length) (hroom : ∀ h n u, V h n u → n + mc ≤ s.heap.size + MC ∧ u + ms ≤ slT s.heap + MS) (hst : (st.map fun v => v.category).sum ≤ 8) (d : decode cc pc = .ok (.invokevirtual index, 3)) (kk : ∀ x, Pq x → AW G p l e (aRm k MC MS) s m args below meth c A nL Q (V1 x) (pc + 3) L st) : AW G p l e (aRm k MC MS) s m args below meth c A nL Q V pc L (vs.reverse ++ .ref b :: st) :=
  a_callV C (fun _ => none) Pq V1 hk hm hM hc hcn hb hG hd hroom hst d kk
theorem a_callSr (C : Cx G p l s m args meth c A y cc nL rt) {y1 : MethodName} {bytes : ByteArray} {maxL k k1 mc ms MC MS index : Nat} {ret : Option FieldType} {vs : List Value} {X : Type} (f : X → Value) (Pq : X → Prop) (V1 : X → aWd) (hk : k1 < k) (hm : maxL ≤ 29) (hM : ∀ h n u, V h n u → CT l y1 (ws_ y1 bytes maxL ret) k1 G vs h n u mc ms (fun r h1 n1 u1 => ∃ x, r = some (f x) ∧ Pq x ∧ V1 x h1 n1 u1)) (hG : GoodIn lw_all (va_wsS y.cls index y1 (ws_ y1 bytes maxL ret))) (hd : aSig y1 vs.length) (hroom : ∀ h n u, V h n u → n + mc ≤ s.heap.size + MC ∧ u + ms ≤ slT s.heap + MS) (hst : (st.map fun v => v.category).sum ≤ 8) (d : decode cc pc = .ok (.invokestatic index, 3)) (kk : ∀ x, Pq x → AW G p l e (aRm k MC MS) s m args below meth c A nL Q (V1 x) (pc + 3) L (f x :: st)) : AW G p l e (aRm k MC MS) s m args below meth c A nL Q V pc L (vs.reverse ++ st) :=
  a_callS C (fun x => some (f x)) Pq V1 hk hm hM hG hd hroom hst d kk
theorem a_callSv (C : Cx G p l s m args meth c A y cc nL rt) {y1 : MethodName} {bytes : ByteArray} {maxL k k1 mc ms MC MS index : Nat} {ret : Option FieldType} {vs : List Value} {X : Type} (Pq : X → Prop) (V1 : X → aWd) (hk : k1 < k) (hm : maxL ≤ 29) (hM : ∀ h n u, V h n u → CT l y1 (ws_ y1 bytes maxL ret) k1 G vs h n u mc ms (fun r h1 n1 u1 => ∃ x, r = none ∧ Pq x ∧ V1 x h1 n1 u1)) (hG : GoodIn lw_all (va_wsS y.cls index y1 (ws_ y1 bytes maxL ret))) (hd : aSig y1 vs.length) (hroom : ∀ h n u, V h n u → n + mc ≤ s.heap.size + MC ∧ u + ms ≤ slT s.heap + MS) (hst : (st.map fun v => v.category).sum ≤ 8) (d : decode cc pc = .ok (.invokestatic index, 3)) (kk : ∀ x, Pq x → AW G p l e (aRm k MC MS) s m args below meth c A nL Q (V1 x) (pc + 3) L st) : AW G p l e (aRm k MC MS) s m args below meth c A nL Q V pc L (vs.reverse ++ st) :=
  a_callS C (fun _ => none) Pq V1 hk hm hM hG hd hroom hst d kk
theorem a_callIv (C : Cx G p l s m args meth c A y cc nL rt) {y1 : MethodName} {bytes : ByteArray} {maxL k k1 mc ms MC MS index : Nat} {vs : List Value} {b : Nat} {X : Type} (Pq : X → Prop) (V1 : X → aWd) (hk : k1 < k) (hm : maxL ≤ 29) (hM : ∀ h n u, V h n u → CT l y1 (ws_ y1 bytes maxL none) k1 G (.ref b :: vs) h n u mc ms (fun r h1 n1 u1 => ∃ x, r = none ∧ Pq x ∧ V1 x h1 n1 u1)) (hini : Cond.initialized y1.cls ∈ lw_all) (hlink : Cond.methodLink y.cls index y1 ∈ lw_all) (hinst : Cond.instanceMethod y1 ∈ lw_all) (hy1 : y1.name = "<init>") (hG : GoodIn lw_all (ws_ y1 bytes maxL none)) (hd : aSig y1 vs.length) (hroom : ∀ h n u, V h n u → n + mc ≤ s.heap.size + MC ∧ u + ms ≤ slT s.heap + MS) (hst : (st.map fun v => v.category).sum ≤ 8) (d : decode cc pc = .ok (.invokespecial index, 3)) (kk : ∀ x, Pq x → AW G p l e (aRm k MC MS) s m args below meth c A nL Q (V1 x) (pc + 3) L st) : AW G p l e (aRm k MC MS) s m args below meth c A nL Q V pc L (vs.reverse ++ .ref b :: st) :=
  a_callI (ret := none) C (fun _ => none) Pq V1 hk hm hM hini hlink hinst hy1 hG hd hroom hst d kk
theorem a_dom (k : ∀ h n u, V h n u → (∀ a f, h a = some f → a < n) → AW G p l e R s m args below meth c A nL Q (aIs h n u) pc L st) : AW G p l e R s m args below meth c A nL Q V pc L st := by
  intro h n u hV H locs ls hz hu hR hA hS hl
  exact k h n u hV (fun a f hf => by rw [← hz]; exact hR.lt hf) h n u ⟨rfl, rfl, rfl⟩ H locs ls hz hu hR hA hS hl
theorem a_domIs {h0 : AH} {n0 u0 : Nat} (k : (∀ a f, h0 a = some f → a < n0) → AW G p l e R s m args below meth c A nL Q (aIs h0 n0 u0) pc L st) : AW G p l e R s m args below meth c A nL Q (aIs h0 n0 u0) pc L st := by
  intro h n u hV H locs ls hz hu hR hA hS hl
  obtain ⟨rfl, rfl, rfl⟩ := hV
  exact k (fun a f hf => by rw [← hz]; exact hR.lt hf) _ _ _ ⟨rfl, rfl, rfl⟩ H locs ls hz hu hR hA hS hl
theorem aNewIs {h0 : AH} {n0 u0 N q : Nat} {E : aE} {h1 : AH} {n1 u1 : Nat} (hV : aNew (aIs h0 n0 u0) q N E h1 n1 u1) : q = n0 ∧ aIs (a_up h0 n0 E) (n0 + 1) (u0 + N) h1 n1 u1 := by
  obtain ⟨h', n', u', ⟨eh, en, eu⟩, ex, -, e1, e2, e3⟩ := hV
  have e : q = n0 := ex.symm.trans en
  rw [e] at e1 e2
  rw [eh] at e1
  rw [eu] at e3
  exact ⟨e, e1, e2, e3⟩
theorem a_qIs {h0 : AH} {n0 u0 N : Nat} {E : aE} {V0 : Nat → aWd} {S0 : Nat → List Value} (hq : ∀ q h1 n1 u1, V0 q h1 n1 u1 → q = n0 ∧ aIs (a_up h0 n0 E) (n0 + 1) (u0 + N) h1 n1 u1) (k : AW G p l e R s m args below meth c A nL Q (aIs (a_up h0 n0 E) (n0 + 1) (u0 + N)) pc L (S0 n0)) : ∀ q, AW G p l e R s m args below meth c A nL Q (V0 q) pc L (S0 q) := by
  intro q h1 n1 u1 hV
  obtain ⟨e, hV1⟩ := hq q h1 n1 u1 hV
  subst e
  exact k h1 n1 u1 hV1
theorem aIs_end {mc ms h0n u0n : Nat} {h1 : AH} {n1 u1 : Nat} (hs : s.heap.size = h0n ∧ slT s.heap = u0n) (q1 : n1 ≤ h0n + mc) (q2 : u1 ≤ u0n + ms) : n1 ≤ s.heap.size + mc ∧ u1 ≤ slT s.heap + ms := by omega
end AW32
theorem pn_RX7 : plainName RX7 = true := by decide
theorem pn_RX2 : plainName RX2 = true := by decide
theorem sg_X7_init : aSig yX7_init 2 := by decide +kernel
theorem sg_X7_first : aSig yX7_first 1 := by decide +kernel
theorem sg_X7_size : aSig yX7_size 0 := by decide +kernel
theorem sg_X7_at : aSig yX7_at 1 := by decide +kernel
theorem rf_cat (b : Option Nat) : (va_rf b).category = 1 := by cases b <;> rfl
set_option maxHeartbeats 4000000 in
theorem ct_X7_init (l : Launch) (G : aG) (q : Nat) (t : Int32) (b : Option Nat) (h0 : AH) (n0 u0 : Nat) (hq : h0 q = some (.inr (5, [.int 0, .null]))) : CT l yX7_init (ws_ yX7_init cX7_init 3 none) 2 G [.ref q, .int t, va_rf b] h0 n0 u0 0 0 (fun r h n u => ∃ _x : Unit, r = none ∧ True ∧ n = n0 ∧ u = u0 ∧ h = a_up (a_up h0 q (.inr (5, [.int t, .null]))) q (.inr (5, [.int t, va_rf b]))) := by
  refine CT.intro [some (.ref q), some (.int t), some (va_rf b)] pn_RX7 rfl (by cases b <;> exact Nat.le_of_ble_eq_true rfl) ?_
  intro p e s m args below meth c C hz hu
  have hs : s.heap.size = n0 ∧ slT s.heap = u0 := ⟨hz, hu⟩
  refine a_aload_0 (pc := 0) C dX7_init_0 ?_
  refine a_objInit (pc := 1) C q1139 q107 q108 (by decide) (Nat.le_of_ble_eq_true rfl) dX7_init_1 ?_
  refine a_aload_0 (pc := 4) C dX7_init_4 ?_
  refine a_iload_1 (pc := 5) C dX7_init_5 ?_
  refine a_putfF (pc := 6) C (ref := "MaltDrums$Entry") (V1 := aIs (a_up h0 q (.inr (5, [.int t, .null]))) n0 u0) in_X7 tyX7 tyX7_ok nmX7 (ci := 5) rfl 0 (by decide) q1140 rfl rfl rfl rfl rfl rfl (by rintro _ _ _ ⟨rfl, rfl, rfl⟩; exact ⟨_, hq, Nat.le_of_ble_eq_true rfl, rfl, rfl, rfl⟩) dX7_init_6 ?_
  refine a_aload_0 (pc := 9) C dX7_init_9 ?_
  refine a_aloadq_2 (pc := 10) C dX7_init_10 ?_
  refine a_putfF (pc := 11) C (ref := "MaltDrums$Entry") (V1 := aIs (a_up (a_up h0 q (.inr (5, [.int t, .null]))) q (.inr (5, [.int t, va_rf b]))) n0 u0) in_X7 tyX7 tyX7_ok nmX7 (ci := 5) rfl 1 (by decide) q1142 rfl rfl rfl rfl (by cases b <;> rfl) (by cases b <;> rfl) (by rintro _ _ _ ⟨rfl, rfl, rfl⟩; exact ⟨_, a_up_self, Nat.le_of_ble_eq_true rfl, rfl, rfl, rfl⟩) dX7_init_11 ?_
  exact a_vret C dX7_init_14 (fun h n u hV => by obtain ⟨rfl, rfl, rfl⟩ := hV; exact ⟨⟨(), rfl, trivial, rfl, rfl, rfl⟩, by omega, by omega⟩)
/-- the heap h, its cells below n kept, more behind -/
def aExt (h0 : AH) (n0 : Nat) (h : AH) : Prop := (∀ x f, h0 x = some f → h x = some f) ∧ ∀ x, x < n0 → h x = h0 x
def hiR (lo : Nat) (h : AH) : AH := fun q => if lo ≤ q then h q else none
theorem hiR_some {lo q : Nat} {h : AH} {f : aE} (e : hiR lo h q = some f) : lo ≤ q ∧ h q = some f := by
  unfold hiR at e
  by_cases z : lo ≤ q
  · rw [if_pos z] at e; exact ⟨z, e⟩
  · rw [if_neg z] at e; cases e
theorem hiR_of {lo q : Nat} {h : AH} (z : lo ≤ q) : hiR lo h q = h q := if_pos z
theorem BK.low {lo : Nat} {h : AH} {L : List Int32} {b : Option Nat} (hb : BK (hiR lo h) L b) : BK h L b := BK.mono (fun q f e => (hiR_some e).2) L b hb
abbrev fiPost (h0 : AH) (n0 u0 : Nat) (L : List Int32) : Option Value → aWd := fun rv h n u => ∃ x : Nat, rv = some (.ref x) ∧ True ∧ (BK (hiR n0 h) L (some x) ∧ n = n0 + L.length ∧ u = u0 + 2 * L.length ∧ aExt h0 n0 h)
theorem take_len (m : Nat) (t : Int32) (r : List Int32) (hm : 1 ≤ m) : ((t :: r).take m).length = 1 + (r.take (m - 1)).length ∧ (t :: r).take m = t :: r.take (m - 1) := by
  obtain ⟨j, rfl⟩ : ∃ j, m = j + 1 := ⟨m - 1, by omega⟩
  simp [Nat.add_comm]
set_option maxHeartbeats 4000000 in
theorem first_body (l : Launch) (G : aG) (r : List Int32) (t : Int32) (m k q : Nat) (h0 : AH) (n0 u0 : Nat) (hm : 1 ≤ m) (hm2 : m < 100) (hk : 3 ≤ k) (hB : BK h0 (t :: r) (some q))
    (hrec : ∀ (x2 : Nat) (t2 : Int32) (r2 : List Int32), r = t2 :: r2 → 2 ≤ m → ∀ (h : AH) (n u : Nat), BK h (t2 :: r2) (some x2) → ∃ k1, k1 < k ∧ CT l yX7_first (ws_ yX7_first cX7_first 2 (some (.object "MaltDrums$Entry"))) k1 G [.ref x2, .int (nI (m - 1))] h n u (r.take (m - 1)).length (2 * (r.take (m - 1)).length) (fiPost h n u (r.take (m - 1)))) :
    CT l yX7_first (ws_ yX7_first cX7_first 2 (some (.object "MaltDrums$Entry"))) k G [.ref q, .int (nI m)] h0 n0 u0 ((t :: r).take m).length (2 * ((t :: r).take m).length) (fiPost h0 n0 u0 ((t :: r).take m)) := by
  obtain ⟨q', b1, e1, hq, hr⟩ := hB
  cases e1
  obtain ⟨hlen, htk⟩ := take_len m t r hm
  rw [hlen, htk]
  refine CT.intro [some (.ref q), some (.int (nI m))] pn_RX7 rfl (Nat.le_of_ble_eq_true rfl) ?_
  intro p e s m1 args below meth c C hz hu
  have hs : s.heap.size = n0 ∧ slT s.heap = u0 := ⟨hz, hu⟩
  refine a_domIs (fun hdom => ?_)
  refine a_new (pc := 0) C (fs := [.int 0, .null]) in_X7 tyX7 tyX7_ok q1134 q1129 q90 (ci := 5) rfl (fun j hj => by rcases (show j = 0 ∨ j = 1 by omega) with rfl | rfl <;> rfl) (by rintro _ _ _ ⟨rfl, rfl, rfl⟩; exact ⟨by show _ ≤ s.heap.size + (1 + _); omega, by show _ ≤ slT s.heap + 2 * (1 + _); omega⟩) dX7_first_0 (a_qIs (S0 := fun q => [.ref q]) (fun _ _ _ _ => aNewIs) ?_)
  have hqn : q ≠ n0 := by have := hdom q _ hq; omega
  have hq1 : a_up h0 n0 (.inr (5, [.int 0, .null])) q = some (.inr (5, [.int t, va_rf b1])) := by rw [a_up_ne hqn]; exact hq
  have hfin : ∀ (b2 : Option Nat) (h2 : AH) (n2 u2 : Nat), BK (hiR (n0 + 1) h2) (r.take (m - 1)) b2 → n2 = n0 + 1 + (r.take (m - 1)).length → u2 = u0 + 2 + 2 * (r.take (m - 1)).length → aExt (a_up h0 n0 (.inr (5, [.int 0, .null]))) (n0 + 1) h2 → AW G p l e (aRm k (1 + (r.take (m - 1)).length) (2 * (1 + (r.take (m - 1)).length))) s m1 args below meth c (a_A h0 n0) 2 (MQ below (a_Qc G (fiPost h0 n0 u0 (t :: r.take (m - 1))) (a_A h0 n0)) args s (1 + (r.take (m - 1)).length) (2 * (1 + (r.take (m - 1)).length)) (a_A h0 n0)) (aIs h2 n2 u2) 34 [some (.ref q), some (.int (nI m))] [va_rf b2, .int t, .ref n0, .ref n0] := by
    intro b2 h2 n2 u2 g1 g2 g3 g4
    have hn2 : h2 n0 = some (.inr (5, [.int 0, .null])) := g4.1 n0 _ a_up_self
    refine a_callIv (pc := 34) C (vs := [.int t, va_rf b2]) (st := [.ref n0]) (mc := 0) (ms := 0) (X := Unit) (fun _ => True) (fun _ => aIs (a_up (a_up h2 n0 (.inr (5, [.int t, .null]))) n0 (.inr (5, [.int t, va_rf b2]))) n2 u2) (k1 := 2) (by omega) (by decide) (by rintro _ _ _ ⟨rfl, rfl, rfl⟩; exact (ct_X7_init l G n0 t b2 _ _ _ hn2).post fun r h1 n1 u1 qq => by obtain ⟨x, e1, e2, e3, e4, e5⟩ := qq; exact ⟨x, e1, e2, e5, e3, e4⟩) q90 q1136 q1137 rfl (lw_meth q1138) sg_X7_init (by rintro _ _ _ ⟨rfl, rfl, rfl⟩; exact ⟨by omega, by omega⟩) (Nat.le_of_ble_eq_true rfl) dX7_first_34 (fun _ _ => ?_)
    refine a_aret (Or.inl ⟨_, rfl⟩) (Or.inr ⟨_, rfl⟩) C dX7_first_37 (fun h3 n3 u3 hV => ?_)
    obtain ⟨rfl, rfl, rfl⟩ := hV
    refine ⟨⟨n0, rfl, trivial, ⟨n0, b2, rfl, ?_, ?_⟩, ?_, ?_, fun x f hx => ?_, fun x hx => ?_⟩, by omega, by omega⟩
    · rw [hiR_of (Nat.le_refl _), a_up_self]
    · refine BK.mono (fun x f hx => ?_) _ _ g1
      obtain ⟨w1, w2⟩ := hiR_some hx
      rw [hiR_of (by omega), a_up_ne (by omega), a_up_ne (by omega)]
      exact w2
    · rw [g2, List.length_cons]; omega
    · rw [g3, List.length_cons]; omega
    · have hx1 := hdom x f hx
      rw [a_up_ne (by omega), a_up_ne (by omega)]
      exact g4.1 x f (by rw [a_up_ne (by omega)]; exact hx)
    · rw [a_up_ne (by omega), a_up_ne (by omega), g4.2 x (by omega), a_up_ne (by omega)]
  have hnull : (r.take (m - 1)).length = 0 → AW G p l e (aRm k (1 + (r.take (m - 1)).length) (2 * (1 + (r.take (m - 1)).length))) s m1 args below meth c (a_A h0 n0) 2 (MQ below (a_Qc G (fiPost h0 n0 u0 (t :: r.take (m - 1))) (a_A h0 n0)) args s (1 + (r.take (m - 1)).length) (2 * (1 + (r.take (m - 1)).length)) (a_A h0 n0)) (aIs (a_up h0 n0 (.inr (5, [.int 0, .null]))) (n0 + 1) (u0 + 2)) 20 [some (.ref q), some (.int (nI m))] [.int t, .ref n0, .ref n0] := by
    intro hlz
    refine a_null (pc := 20) C dX7_first_20 ?_
    refine a_goto (pc := 21) C 34 dX7_first_21 (by decide) ?_
    refine hfin none _ _ _ ?_ (by omega) (by omega) ⟨fun _ _ h => h, fun _ _ => rfl⟩
    rw [List.eq_nil_of_length_eq_zero hlz]
    rfl
  refine a_dup (pc := 3) C dX7_first_3 rfl ?_
  refine a_aload_0 (pc := 4) C dX7_first_4 ?_
  refine a_getf (pc := 5) C (ref := "MaltDrums$Entry") (v := .int t) in_X7 (ci := 5) rfl 0 (by decide) q1140 rfl (by rintro _ _ _ ⟨rfl, rfl, rfl⟩; exact ⟨_, hq1, rfl⟩) dX7_first_5 ?_
  refine a_iload_1 (pc := 8) C dX7_first_8 ?_
  refine a_iconst (pc := 9) C dX7_first_9 ic_1 ?_
  refine a_icmp_eq (pc := 10) C 20 dX7_first_10 (by decide) (fun c1 => ?_) (fun c1 => ?_)
  · have hm1 : m = 1 := (nI_eq (by omega) (by omega)).mp c1
    exact hnull (by rw [hm1]; simp)
  · have hm1 : 2 ≤ m := by
      rcases Nat.lt_or_ge m 2 with z | z
      · exact absurd (by rw [show m = 1 by omega]; rfl) c1
      · exact z
    refine a_aload_0 (pc := 13) C dX7_first_13 ?_
    refine a_getf (pc := 14) C (ref := "MaltDrums$Entry") (v := va_rf b1) in_X7 (ci := 5) rfl 1 (by decide) q1142 rfl (by rintro _ _ _ ⟨rfl, rfl, rfl⟩; exact ⟨_, hq1, rfl⟩) dX7_first_14 ?_
    refine a_ifnonnullq (pc := 17) C 24 dX7_first_17 (by decide) (fun x2 hx2 => ?_) (fun hx2 => ?_)
    · subst hx2
      cases r with
      | nil => exact absurd hr (by simp [BK])
      | cons t2 r2 =>
        refine a_aload_0 (pc := 24) C dX7_first_24 ?_
        refine a_getf (pc := 25) C (ref := "MaltDrums$Entry") (v := .ref x2) in_X7 (ci := 5) rfl 1 (by decide) q1142 rfl (by rintro _ _ _ ⟨rfl, rfl, rfl⟩; exact ⟨_, hq1, rfl⟩) dX7_first_25 ?_
        refine a_iload_1 (pc := 28) C dX7_first_28 ?_
        refine a_iconst (pc := 29) C dX7_first_29 ic_1 ?_
        refine a_isub (pc := 30) C dX7_first_30 ?_
        have hBx : BK (a_up h0 n0 (.inr (5, [.int 0, .null]))) (t2 :: r2) (some x2) := BK.mono (fun x f hx => by rw [a_up_ne (by have := hdom x _ hx; omega)]; exact hx) _ _ hr
        obtain ⟨k1, hk1, hct⟩ := hrec x2 t2 r2 rfl hm1 _ (n0 + 1) (u0 + 2) hBx
        have hsub : nI m - 1 = nI (m - 1) := pk_sub (a := m) (b := 1) (by omega)
        rw [hsub]
        obtain ⟨x3, f3, ex3, hx3, -⟩ := hBx
        cases ex3
        refine a_callVr (pc := 31) C (vs := [.int (nI (m - 1))]) (st := [.int t, .ref n0, .ref n0]) (X := Nat × AH × Nat × Nat) (fun x => .ref x.1) (fun x => BK (hiR (n0 + 1) x.2.1) ((t2 :: r2).take (m - 1)) (some x.1) ∧ x.2.2.1 = n0 + 1 + ((t2 :: r2).take (m - 1)).length ∧ x.2.2.2 = u0 + 2 + 2 * ((t2 :: r2).take (m - 1)).length ∧ aExt (a_up h0 n0 (.inr (5, [.int 0, .null]))) (n0 + 1) x.2.1) (fun x => aIs x.2.1 x.2.2.1 x.2.2.2) (b := x2) hk1 (by decide) (by rintro _ _ _ ⟨rfl, rfl, rfl⟩; exact hct.post fun rv h1 n1 u1 qq => by obtain ⟨x, e1, -, e2, e3, e4, e5⟩ := qq; exact ⟨(x, h1, n1, u1), e1, ⟨e2, e3, e4, e5⟩, rfl, rfl, rfl⟩) (ci := 5) (r0 := (RX7, TX7, 2)) rfl rfl (by rintro _ _ _ ⟨rfl, rfl, rfl⟩; exact ⟨_, hx3⟩) (lw_V q1135 q1131 q1132 q90 q1133) sg_X7_first (by rintro _ _ _ ⟨rfl, rfl, rfl⟩; exact ⟨by omega, by omega⟩) (Nat.le_of_ble_eq_true rfl) dX7_first_31 (fun x hx => ?_)
        obtain ⟨g1, g2, g3, g4⟩ := hx
        exact hfin (some x.1) x.2.1 x.2.2.1 x.2.2.2 g1 g2 g3 g4
    · subst hx2
      cases r with
      | nil => exact hnull (by simp)
      | cons t2 r2 => obtain ⟨_, _, e, _⟩ := hr; cases e
theorem ct_X7_first (l : Launch) (G : aG) : ∀ (r : List Int32) (t : Int32) (m k q : Nat) (h0 : AH) (n0 u0 : Nat), 1 ≤ m → m < 100 → r.length + 3 ≤ k → BK h0 (t :: r) (some q) →
    CT l yX7_first (ws_ yX7_first cX7_first 2 (some (.object "MaltDrums$Entry"))) k G [.ref q, .int (nI m)] h0 n0 u0 ((t :: r).take m).length (2 * ((t :: r).take m).length) (fiPost h0 n0 u0 ((t :: r).take m)) := by
  intro r
  induction r with
  | nil => exact fun t m k q h0 n0 u0 hm hm2 hk hB => first_body l G [] t m k q h0 n0 u0 hm hm2 (by simpa using hk) hB (fun _ _ _ e => by cases e)
  | cons t2 r ih =>
    intro t m k q h0 n0 u0 hm hm2 hk hB
    refine first_body l G (t2 :: r) t m k q h0 n0 u0 hm hm2 (by simp at hk; omega) hB (fun x2 t3 r3 e hm3 h n u hb => ?_)
    cases e
    exact ⟨k - 1, by omega, ih t2 (m - 1) (k - 1) x2 h n u (by omega) (by omega) (by simp at hk; omega) hb⟩
/-- what note does: an entry ahead of the latest eleven -/
def hNote (what lot : Int32) (σ : HS) : HS := (σ.1, (100 * σ.1 11 2 + 12 * what + lot) :: σ.2.1.take 11, σ.2.2 - 12)
def wp_X2_note (p1 p2 : Int32) (σ : HS) (Q : HS → Prop) : Prop := 12 ≤ σ.2.2 ∧ σ.2.1.length ≤ 12 ∧ Q (hNote p1 p2 σ)
theorem sg_X2_note : aSig yX2_note 2 := by decide +kernel
theorem take11 (L : List Int32) : (L.take 11).length ≤ 11 := by rw [List.length_take]; omega
theorem hObj_book (a : Nat) (b b1 : Option Nat) (y : MS) : ∃ fs, hObj a b y = .inr (1, fs) ∧ 9 < fs.length ∧ fs[9]? = some (va_rf b) ∧ (.inr (1, fs.set 9 (va_rf b1)) : aE) = hObj a b1 y := ⟨_, rfl, Nat.le_of_ble_eq_true rfl, rfl, rfl⟩
theorem hObj_time (a : Nat) (b : Option Nat) (y : MS) : ∃ fs, hObj a b y = .inr (1, fs) ∧ fs[12]? = some (.int (y 11 2)) := ⟨_, rfl, rfl⟩
set_option maxHeartbeats 8000000 in
theorem ct_X2_note (l : Launch) (G : aG) (a : Nat) (p1 p2 : Int32) (σ : HS) (Q : HS → Prop) (hw : wp_X2_note p1 p2 σ Q) (h0 : AH) (n0 u0 : Nat) (hV : HV h0 a σ) : CT l yX2_note (ws_ yX2_note cX2_note 3 none) 16 G [.ref a, .int p1, .int p2] h0 n0 u0 σ.2.2 (2 * σ.2.2) (h_pv Q h0 n0 u0 a σ.2.2) := by
  obtain ⟨hk12, hlen12, hQ⟩ := hw
  refine CT.intro [some (.ref a), some (.int p1), some (.int p2)] pn_RX2 rfl (Nat.le_of_ble_eq_true rfl) ?_
  intro p e s m1 args below meth c C hz hu
  have hs : s.heap.size = n0 ∧ slT s.heap = u0 := ⟨hz, hu⟩
  refine a_domIs (fun hdom => ?_)
  obtain ⟨⟨bk, ho, hbk⟩, hr1, ⟨fd, hr2, hr3⟩, hr4, hr5, hr6⟩ := hV
  have hlt : ∀ j, j < 14 → a + j < n0 := by
    intro j hj
    have : a + 9 + (1 + 3) < n0 := hdom _ _ (hr5 3 (by decide))
    omega
  refine a_aload_0 (pc := 0) C dX2_note_0 ?_
  refine a_new (pc := 1) C (fs := [.int 0, .null]) in_X7 tyX7 tyX7_ok q1128 q1129 q90 (ci := 5) rfl (fun j hj => by rcases (show j = 0 ∨ j = 1 by omega) with rfl | rfl <;> rfl) (by rintro _ _ _ ⟨rfl, rfl, rfl⟩; exact ⟨by show _ ≤ s.heap.size + σ.2.2; omega, by show _ ≤ slT s.heap + 2 * σ.2.2; omega⟩) dX2_note_1 (a_qIs (S0 := fun q => [.ref q, .ref a]) (fun _ _ _ _ => aNewIs) ?_)
  have hold : ∀ x f, h0 x = some f → a_up h0 n0 (.inr (5, [.int 0, .null])) x = some f := fun x f hx => by rw [a_up_ne (by have := hdom x f hx; omega)]; exact hx
  obtain ⟨t, ht⟩ : ∃ t : Int32, t = 100 * σ.1 11 2 + 12 * p1 + p2 := ⟨_, rfl⟩
  have hfin : ∀ (b2 : Option Nat) (h2 : AH) (n2 u2 : Nat), BK (hiR (n0 + 1) h2) (σ.2.1.take 11) b2 → n2 = n0 + 1 + (σ.2.1.take 11).length → u2 = u0 + 2 + 2 * (σ.2.1.take 11).length → aExt (a_up h0 n0 (.inr (5, [.int 0, .null]))) (n0 + 1) h2 → AW G p l e (aRm 16 σ.2.2 (2 * σ.2.2)) s m1 args below meth c (a_A h0 n0) 3 (MQ below (a_Qc G (h_pv Q h0 n0 u0 a σ.2.2) (a_A h0 n0)) args s σ.2.2 (2 * σ.2.2) (a_A h0 n0)) (aIs h2 n2 u2) 39 [some (.ref a), some (.int p1), some (.int p2)] [va_rf b2, .int t, .ref n0, .ref n0, .ref a] := by
    intro b2 h2 n2 u2 g1 g2 g3 g4
    have hl11 := take11 σ.2.1
    have hn2 : h2 n0 = some (.inr (5, [.int 0, .null])) := g4.1 n0 _ a_up_self
    refine a_callIv (pc := 39) C (vs := [.int t, va_rf b2]) (st := [.ref n0, .ref a]) (mc := 0) (ms := 0) (X := Unit) (fun _ => True) (fun _ => aIs (a_up (a_up h2 n0 (.inr (5, [.int t, .null]))) n0 (.inr (5, [.int t, va_rf b2]))) n2 u2) (k1 := 2) (by decide) (by decide) (by rintro _ _ _ ⟨rfl, rfl, rfl⟩; exact (ct_X7_init l G n0 t b2 _ _ _ hn2).post fun r h1 n1 u1 qq => by obtain ⟨x, e1, e2, e3, e4, e5⟩ := qq; exact ⟨x, e1, e2, e5, e3, e4⟩) q90 q1148 q1137 rfl (lw_meth q1138) sg_X7_init (by rintro _ _ _ ⟨rfl, rfl, rfl⟩; exact ⟨by omega, by omega⟩) (Nat.le_of_ble_eq_true rfl) dX2_note_39 (fun _ _ => ?_)
    obtain ⟨h3, e3⟩ : ∃ h3, h3 = a_up (a_up h2 n0 (.inr (5, [.int t, .null]))) n0 (.inr (5, [.int t, va_rf b2])) := ⟨_, rfl⟩
    rw [← e3]
    have h3o : ∀ x f, h0 x = some f → h3 x = some f := fun x f hx => by
      have := hdom x f hx
      rw [e3, a_up_ne (by omega), a_up_ne (by omega)]
      exact g4.1 x f (hold x f hx)
    have h3l : ∀ x, x < n0 → h3 x = h0 x := fun x hx => by rw [e3, a_up_ne (by omega), a_up_ne (by omega), g4.2 x (by omega), a_up_ne (by omega)]
    have hB3 : BK h3 (t :: σ.2.1.take 11) (some n0) := ⟨n0, b2, rfl, by rw [e3, a_up_self], BK.mono (fun x f hx => by
      obtain ⟨w1, w2⟩ := hiR_some hx
      rw [e3, a_up_ne (by omega), a_up_ne (by omega)]
      exact w2) _ _ g1⟩
    obtain ⟨fs, f1, f2, f3, f4⟩ := hObj_book a bk (some n0) σ.1
    have ha3 : h3 a = some (.inr (1, fs)) := by rw [h3o a _ ho, f1]
    refine a_putf (pc := 42) C (ref := "MaltDrums$House") (V1 := aIs (a_up h3 a (.inr (1, fs.set 9 (.ref n0)))) n2 u2) in_X2 tyX2 tyX2_ok nmX2 (ci := 1) rfl 9 (by decide) q174 rfl rfl rfl rfl (by rintro _ _ _ ⟨rfl, rfl, rfl⟩; exact ⟨_, ha3, f2, rfl, rfl, rfl⟩) dX2_note_42 ?_
    refine a_vret C dX2_note_45 (fun h4 n4 u4 hV => ?_)
    obtain ⟨rfl, rfl, rfl⟩ := hV
    have hE : ∀ (x : Nat) (f : List Value), h3 x = some (.inr (5, f)) → a_up h3 a (.inr (1, fs.set 9 (.ref n0))) x = some (.inr (5, f)) := h_keep ha3 (fun f z => by cases z)
    refine ⟨⟨hNote p1 p2 σ, rfl, hQ, ⟨⟨some n0, ?_, ?_⟩, fun b hb => ?_, ⟨fd, ?_, hr3⟩, ?_, fun d hd => ?_, hr6⟩, by omega, by omega, ?_, ?_, fun x hx ho2 => ?_, fun x f hx => ?_⟩, by omega, by omega⟩
    · rw [a_up_self]; exact congrArg some f4
    · show BK _ ((100 * σ.1 11 2 + 12 * p1 + p2) :: σ.2.1.take 11) (some n0)
      rw [← ht]
      exact BK.mono hE _ _ hB3
    · rw [a_up_ne (by omega)]; exact h3o _ _ (hr1 b hb)
    · rw [a_up_ne (by omega)]; exact h3o _ _ hr2
    · rw [a_up_ne (by omega)]; exact h3o _ _ hr4
    · rw [a_up_ne (by omega)]; exact h3o _ _ (hr5 d hd)
    · show _ + (σ.2.2 - 12) ≤ n0 + σ.2.2; omega
    · show _ + 2 * (σ.2.2 - 12) ≤ u0 + 2 * σ.2.2; omega
    · rw [a_up_ne (by omega)]; exact h3l x hx
    · exact hE x f (h3o x _ hx)
  obtain ⟨fs, f1, f2, f3, -⟩ := hObj_book a bk bk σ.1
  obtain ⟨fs2, g1, g2⟩ := hObj_time a bk σ.1
  refine a_dup (pc := 4) C dX2_note_4 rfl ?_
  refine a_bipush (pc := 5) C dX2_note_5 bc_100 ?_
  refine a_aload_0 (pc := 7) C dX2_note_7 ?_
  refine a_getf (pc := 8) C (ref := "MaltDrums$House") (v := .int (σ.1 11 2)) in_X2 (ci := 1) rfl 12 (by decide) q180 rfl (by rintro _ _ _ ⟨rfl, rfl, rfl⟩; exact ⟨fs2, by rw [hold a _ ho, g1], g2⟩) dX2_note_8 ?_
  refine a_imul (pc := 11) C dX2_note_11 ?_
  refine a_bipush (pc := 12) C dX2_note_12 bc_12 ?_
  refine a_iload_1 (pc := 14) C dX2_note_14 ?_
  refine a_imul (pc := 15) C dX2_note_15 ?_
  refine a_iadd (pc := 16) C dX2_note_16 ?_
  refine a_iload_2 (pc := 17) C dX2_note_17 ?_
  refine a_iadd (pc := 18) C dX2_note_18 ?_
  rw [← ht]
  refine a_aload_0 (pc := 19) C dX2_note_19 ?_
  refine a_getf (pc := 20) C (ref := "MaltDrums$House") (v := va_rf bk) in_X2 (ci := 1) rfl 9 (by decide) q174 rfl (by rintro _ _ _ ⟨rfl, rfl, rfl⟩; exact ⟨fs, by rw [hold a _ ho, f1], f3⟩) dX2_note_20 ?_
  refine a_ifnonnullq (pc := 23) C 30 dX2_note_23 (by decide) (fun x2 hx2 => ?_) (fun hx2 => ?_)
  · subst hx2
    refine a_aload_0 (pc := 30) C dX2_note_30 ?_
    refine a_getf (pc := 31) C (ref := "MaltDrums$House") (v := .ref x2) in_X2 (ci := 1) rfl 9 (by decide) q174 rfl (by rintro _ _ _ ⟨rfl, rfl, rfl⟩; exact ⟨fs, by rw [hold a _ ho, f1], f3⟩) dX2_note_31 ?_
    refine a_bipush (pc := 34) C dX2_note_34 bc_11 ?_
    have hl11 := take11 σ.2.1
    cases hL : σ.2.1 with
    | nil => rw [hL] at hbk; cases hbk
    | cons t2 r2 =>
      rw [hL] at hbk hlen12 hfin hl11
      have hBx : BK (a_up h0 n0 (.inr (5, [.int 0, .null]))) (t2 :: r2) (some x2) := BK.mono (fun x f hx => hold x _ hx) _ _ hbk
      have hct := ct_X7_first l G r2 t2 11 15 x2 _ (n0 + 1) (u0 + 2) (by decide) (by decide) (by simp at hlen12; omega) hBx
      obtain ⟨x3, f3, ex3, hx3, -⟩ := hBx
      cases ex3
      refine a_callVr (pc := 36) C (vs := [.int 11]) (st := [.int t, .ref n0, .ref n0, .ref a]) (X := Nat × AH × Nat × Nat) (fun x => .ref x.1) (fun x => BK (hiR (n0 + 1) x.2.1) ((t2 :: r2).take 11) (some x.1) ∧ x.2.2.1 = n0 + 1 + ((t2 :: r2).take 11).length ∧ x.2.2.2 = u0 + 2 + 2 * ((t2 :: r2).take 11).length ∧ aExt (a_up h0 n0 (.inr (5, [.int 0, .null]))) (n0 + 1) x.2.1) (fun x => aIs x.2.1 x.2.2.1 x.2.2.2) (b := x2) (k1 := 15) (by decide) (by decide) (by rintro _ _ _ ⟨rfl, rfl, rfl⟩; exact hct.post fun rv h1 n1 u1 qq => by obtain ⟨x, e1, -, e2, e3, e4, e5⟩ := qq; exact ⟨(x, h1, n1, u1), e1, ⟨e2, e3, e4, e5⟩, rfl, rfl, rfl⟩) (ci := 5) (r0 := (RX7, TX7, 2)) rfl rfl (by rintro _ _ _ ⟨rfl, rfl, rfl⟩; exact ⟨_, hx3⟩) (lw_V q1130 q1131 q1132 q90 q1133) sg_X7_first (by rintro _ _ _ ⟨rfl, rfl, rfl⟩; exact ⟨by omega, by omega⟩) (Nat.le_of_ble_eq_true rfl) dX2_note_36 (fun x hx => ?_)
      obtain ⟨y1, y2, y3, y4⟩ := hx
      exact hfin (some x.1) x.2.1 x.2.2.1 x.2.2.2 y1 y2 y3 y4
  · subst hx2
    refine a_null (pc := 26) C dX2_note_26 ?_
    refine a_goto (pc := 27) C 39 dX2_note_27 (by decide) ?_
    cases hL : σ.2.1 with
    | nil =>
      rw [hL] at hfin
      exact hfin none _ _ _ rfl (by simp) (by simp) ⟨fun _ _ h => h, fun _ _ => rfl⟩
    | cons t2 r2 => rw [hL] at hbk; obtain ⟨_, _, ee, _⟩ := hbk; cases ee
