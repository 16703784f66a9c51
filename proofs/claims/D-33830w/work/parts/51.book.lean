set_option maxRecDepth 100000
/-! THE BOOK: how many entries; one of them -/
theorem size_body (l : Launch) (G : aG) (r : List Int32) (t : Int32) (k q : Nat) (h0 : AH) (n0 u0 : Nat) (hk : 1 ≤ k) (hB : BK h0 (t :: r) (some q))
    (hrec : ∀ x2 t2 r2, r = t2 :: r2 → BK h0 r (some x2) → ∃ k1, k1 < k ∧ CT l yX7_size (ws_ yX7_size cX7_size 1 (some .int)) k1 G [.ref x2] h0 n0 u0 0 0 (s_pi (fun v => v = Int32.ofNat r.length) h0 n0 u0)) : CT l yX7_size (ws_ yX7_size cX7_size 1 (some .int)) k G [.ref q] h0 n0 u0 0 0 (s_pi (fun v => v = Int32.ofNat (r.length + 1)) h0 n0 u0) := by
  obtain ⟨q9, b1, eq9, hq, hr⟩ := hB
  cases eq9
  refine CT.intro [some (.ref q)] pn_RX7 rfl (Nat.le_of_ble_eq_true rfl) ?_
  intro p e s m args below meth c C hz hu
  have hs : s.heap.size = n0 ∧ slT s.heap = u0 := ⟨hz, hu⟩
  refine a_aload_0 (pc := 0) C dX7_size_0 ?_
  refine a_getf (pc := 1) C (ref := "MaltDrums$Entry") (v := va_rf b1) in_X7 (ci := 5) rfl 1 (by decide) q1142 rfl (by rintro _ _ _ ⟨rfl, rfl, rfl⟩; exact ⟨_, hq, rfl⟩) dX7_size_1 ?_
  refine a_ifnonnullq (pc := 4) C 11 dX7_size_4 (by decide) (fun x2 hx2 => ?_) (fun hx2 => ?_)
  · subst hx2
    cases r with
    | nil => exact absurd hr (by simp [BK])
    | cons t2 r2 =>
      obtain ⟨k1, hk1, hct⟩ := hrec x2 t2 r2 rfl hr
      refine a_iconst (pc := 11) C dX7_size_11 ic_1 ?_
      refine a_aload_0 (pc := 12) C dX7_size_12 ?_
      refine a_getf (pc := 13) C (ref := "MaltDrums$Entry") (v := .ref x2) in_X7 (ci := 5) rfl 1 (by decide) q1142 rfl (by rintro _ _ _ ⟨rfl, rfl, rfl⟩; exact ⟨_, hq, rfl⟩) dX7_size_13 ?_
      obtain ⟨x3, f3, ex3, hx3, -⟩ := hr
      cases ex3
      refine a_callV (pc := 16) C (vs := []) (st := [.int 1]) (ci := 5) (r0 := (RX7, TX7, 2)) (X := Int32) (fun x => some (.int x)) (fun v => v = Int32.ofNat (t2 :: r2).length) (fun _ => aIs h0 n0 u0) (mc := 0) (ms := 0) hk1 (by decide) (by rintro _ _ _ ⟨rfl, rfl, rfl⟩; exact hct.post fun r h1 n1 u1 qq => by obtain ⟨x, e1, e2, e3⟩ := qq; exact ⟨x, e1, e2, e3⟩) rfl rfl (by rintro _ _ _ ⟨rfl, rfl, rfl⟩; exact ⟨_, hx3⟩) (lw_V q1169 q1166 q1167 q90 q1168) sg_X7_size (fun h n u hV => s_end0 hs hV) (Nat.le_of_ble_eq_true rfl) dX7_size_16 (fun v hv => ?_)
      refine a_iadd (pc := 19) C dX7_size_19 ?_
      refine a_iret C dX7_size_20 (fun h n u hV => ⟨⟨_, rfl, ?_, hV⟩, s_end0 hs hV⟩)
      rw [hv, Int32.add_comm]
      exact (nI_succ _).symm
  · subst hx2
    cases r with
    | nil =>
      refine a_iconst (pc := 7) C dX7_size_7 ic_1 ?_
      refine a_goto (pc := 8) C 20 dX7_size_8 (by decide) ?_
      exact a_iret C dX7_size_20 (fun h n u hV => ⟨⟨_, rfl, (by decide), hV⟩, s_end0 hs hV⟩)
    | cons t2 r2 => obtain ⟨_, _, e, _⟩ := hr; cases e
theorem ct_X7_size (l : Launch) (G : aG) : ∀ (r : List Int32) (t : Int32) (k q : Nat) (h0 : AH) (n0 u0 : Nat), r.length + 1 ≤ k → BK h0 (t :: r) (some q) → CT l yX7_size (ws_ yX7_size cX7_size 1 (some .int)) k G [.ref q] h0 n0 u0 0 0 (s_pi (fun v => v = Int32.ofNat (r.length + 1)) h0 n0 u0)
  | [], t, k, q, h0, n0, u0, hk, hB => size_body l G [] t k q h0 n0 u0 (by omega) hB (fun _ _ _ z => nomatch z)
  | t2 :: r2, t, k, q, h0, n0, u0, hk, hB => size_body l G (t2 :: r2) t k q h0 n0 u0 (by omega) hB (fun x2 _ _ _ h2 => ⟨k - 1, by omega, ct_X7_size l G r2 t2 (k - 1) x2 h0 n0 u0 (by simp only [List.length_cons] at hk; omega) h2⟩)
abbrev atPost (L : List Int32) (i : Nat) (h0 : AH) (n0 u0 : Nat) : Option Value → aWd := fun rv h n u => ∃ x : Nat, rv = some (.ref x) ∧ (∃ b, h0 x = some (.inr (5, [.int (L.getD i 0), va_rf b]))) ∧ aIs h0 n0 u0 h n u
theorem at_body (l : Launch) (G : aG) (r : List Int32) (t : Int32) (i k q : Nat) (h0 : AH) (n0 u0 : Nat) (hk : 1 ≤ k) (hi : i < r.length + 1) (hi2 : i < 100) (hB : BK h0 (t :: r) (some q))
    (hrec : ∀ x2, 0 < i → BK h0 r (some x2) → ∃ k1, k1 < k ∧ CT l yX7_at (ws_ yX7_at cX7_at 2 (some (.object "MaltDrums$Entry"))) k1 G [.ref x2, .int (nI (i - 1))] h0 n0 u0 0 0 (atPost r (i - 1) h0 n0 u0)) : CT l yX7_at (ws_ yX7_at cX7_at 2 (some (.object "MaltDrums$Entry"))) k G [.ref q, .int (nI i)] h0 n0 u0 0 0 (atPost (t :: r) i h0 n0 u0) := by
  obtain ⟨q9, b1, eq9, hq, hr⟩ := hB
  cases eq9
  refine CT.intro [some (.ref q), some (.int (nI i))] pn_RX7 rfl (Nat.le_of_ble_eq_true rfl) ?_
  intro p e s m args below meth c C hz hu
  have hs : s.heap.size = n0 ∧ slT s.heap = u0 := ⟨hz, hu⟩
  refine a_iload_1 (pc := 0) C dX7_at_0 ?_
  refine a_if_ne (pc := 1) C 8 dX7_at_1 (by decide) (fun c1 => ?_) (fun c1 => ?_)
  · have hi0 : 0 < i := Nat.pos_of_ne_zero (fun z => c1 (by rw [z]; rfl))
    refine a_aload_0 (pc := 8) C dX7_at_8 ?_
    cases hb : b1 with
    | none =>
      subst hb
      cases r with
      | nil => exact absurd hi (by simp only [List.length_nil]; omega)
      | cons t2 r2 => obtain ⟨_, _, e, _⟩ := hr; cases e
    | some x2 =>
      subst hb
      obtain ⟨k1, hk1, hct⟩ := hrec x2 hi0 hr
      refine a_getf (pc := 9) C (ref := "MaltDrums$Entry") (v := .ref x2) in_X7 (ci := 5) rfl 1 (by decide) q1142 rfl (by rintro _ _ _ ⟨rfl, rfl, rfl⟩; exact ⟨_, hq, rfl⟩) dX7_at_9 ?_
      refine a_iload_1 (pc := 12) C dX7_at_12 ?_
      refine a_iconst (pc := 13) C dX7_at_13 ic_1 ?_
      refine a_isub (pc := 14) C dX7_at_14 ?_
      have hsub : nI i - 1 = nI (i - 1) := pk_sub (a := i) (b := 1) (by omega)
      rw [hsub]
      have hx : ∃ f, h0 x2 = some (.inr (5, f)) := by
        cases r with
        | nil => exact absurd hr (by simp [BK])
        | cons t2 r2 => obtain ⟨x3, f3, ex3, hx3, -⟩ := hr; cases ex3; exact ⟨_, hx3⟩
      refine a_callV (pc := 15) C (vs := [.int (nI (i - 1))]) (st := []) (ci := 5) (r0 := (RX7, TX7, 2)) (X := Nat) (fun x => some (.ref x)) (fun x => ∃ b, h0 x = some (.inr (5, [.int (r.getD (i - 1) 0), va_rf b]))) (fun _ => aIs h0 n0 u0) (mc := 0) (ms := 0) hk1 (by decide) (by rintro _ _ _ ⟨rfl, rfl, rfl⟩; exact hct.post fun r h1 n1 u1 qq => by obtain ⟨x, e1, e2, e3⟩ := qq; exact ⟨x, e1, e2, e3⟩) rfl rfl (by rintro _ _ _ ⟨rfl, rfl, rfl⟩; exact hx) (lw_V q1751 q1748 q1749 q90 q1750) sg_X7_at (fun h n u hV => s_end0 hs hV) (Nat.le_of_ble_eq_true rfl) dX7_at_15 (fun x hv => ?_)
      refine a_aret (Or.inl ⟨_, rfl⟩) (Or.inr ⟨_, rfl⟩) C dX7_at_18 (fun h n u hV => ⟨⟨x, rfl, ?_, hV⟩, s_end0 hs hV⟩)
      rw [show i = (i - 1) + 1 by omega, List.getD_cons_succ]
      exact hv
  · have hi0 : i = 0 := (nI_eq (a := i) (b := 0) (by omega) (by decide)).mp c1
    subst hi0
    refine a_aload_0 (pc := 4) C dX7_at_4 ?_
    refine a_goto (pc := 5) C 18 dX7_at_5 (by decide) ?_
    exact a_aret (Or.inl ⟨_, rfl⟩) (Or.inr ⟨_, rfl⟩) C dX7_at_18 (fun h n u hV => ⟨⟨q, rfl, ⟨b1, hq⟩, hV⟩, s_end0 hs hV⟩)
theorem ct_X7_at (l : Launch) (G : aG) : ∀ (r : List Int32) (t : Int32) (i k q : Nat) (h0 : AH) (n0 u0 : Nat), r.length + 1 ≤ k → i < r.length + 1 → i < 100 → BK h0 (t :: r) (some q) → CT l yX7_at (ws_ yX7_at cX7_at 2 (some (.object "MaltDrums$Entry"))) k G [.ref q, .int (nI i)] h0 n0 u0 0 0 (atPost (t :: r) i h0 n0 u0)
  | [], t, i, k, q, h0, n0, u0, hk, hi, hi2, hB => at_body l G [] t i k q h0 n0 u0 (by omega) hi hi2 hB (fun x2 z _ => absurd hi (by simp only [List.length_nil]; omega))
  | t2 :: r2, t, i, k, q, h0, n0, u0, hk, hi, hi2, hB => at_body l G (t2 :: r2) t i k q h0 n0 u0 (by omega) hi hi2 hB (fun x2 z h2 => ⟨k - 1, by omega, ct_X7_at l G r2 t2 (i - 1) (k - 1) x2 h0 n0 u0 (by simp only [List.length_cons] at hk; omega) (by simp only [List.length_cons] at hi; omega) (by omega) h2⟩)
theorem nI_back9 {i : Int32} (h9 : (0 : Int) ≤ i.toInt) : nI i.toInt.toNat = i := by
  apply Int32.toInt_inj.mp
  have h1 := i.toInt_lt
  show (Int32.ofNat i.toInt.toNat).toInt = i.toInt
  rw [Int32.toInt_ofNat_of_lt (by omega)]
  omega
section BkRows
variable {G : aG} {p : Program} {l : Launch} {e : Env} {R : Room} {s : State} {m : MethodId} {args : Array Value} {below : List Frame} {meth : Method} {c : Code} {A : Nat → Prop} {y : MethodName} {cc : ByteArray} {nL : Nat} {rt : Option FieldType} {Q : State → Prop} {pc k : Nat} {L : List (Option Value)} {st : List Value} {h0 : AH} {n0 u0 K : Nat} {E : Nat → Prop} {σ : OS}
theorem o_bkSize (C : Cx G p l s m args meth c A y cc nL rt) (hs : s.heap.size = n0 ∧ slT s.heap = u0) {r index : Nat} {B : List Int32} (hm : (some r, B) ∈ σ.2.2.2.2) (hn : B ≠ []) (h12 : B.length ≤ 12) (hk : 14 < k) (hlink : Cond.methodLink y.cls index yX7_size ∈ lw_all) (hst : (st.map fun v => v.category).sum ≤ 8) (d : decode cc pc = .ok (.invokevirtual index, 3)) (kk : AW G p l e (aRm k K (10 * K)) s m args below meth c A nL Q (OW h0 n0 u0 E K σ) (pc + 3) L (.int (Int32.ofNat B.length) :: st)) : AW G p l e (aRm k K (10 * K)) s m args below meth c A nL Q (OW h0 n0 u0 E K σ) pc L (.ref r :: st) := by
  obtain ⟨t, r2, rfl⟩ := List.exists_cons_of_ne_nil hn
  refine a_callVC C (vs := []) (mc := 0) (ms := 0) (k1 := 14) (ci := 5) (r0 := (RX7, TX7, 2)) (X := Int32) (fun x => some (.int x)) (fun v => v = Int32.ofNat (r2.length + 1)) (fun _ => OW h0 n0 u0 E K σ) hk (by decide) (fun h n u hV => (ct_X7_size l G r2 t 14 r h n u (by simp only [List.length_cons] at h12; omega) (hV.1.2.2.2.2.2.2 _ _ hm)).post fun r h1 n1 u1 qq => by obtain ⟨x, e1, e2, rfl, rfl, rfl⟩ := qq; exact ⟨x, e1, e2, hV⟩) rfl (fun h n u hV => ?_) q90 hlink q1166 q1167 (lw_meth q1168) sg_X7_size (o_room0 hs) hst d (fun x hx => by rw [hx]; exact kk)
  obtain ⟨_, _, e, he, -⟩ := hV.1.2.2.2.2.2.2 _ _ hm
  cases e
  exact ⟨_, he⟩
/-- at(i), and what it tells -/
theorem o_bkAt (C : Cx G p l s m args meth c A y cc nL rt) (hs : s.heap.size = n0 ∧ slT s.heap = u0) {r index index2 : Nat} {host : String} {i : Int32} {B : List Int32} (hm : (some r, B) ∈ σ.2.2.2.2) (hi0 : ¬ i < 0) (hi : i.toNatClampNeg < B.length) (h12 : B.length ≤ 12) (hk : 14 < k) (hlink : Cond.methodLink y.cls index yX7_at ∈ lw_all) (hlink2 : Cond.fieldLinkNest y.cls index2 "MaltDrums$Entry" "told" "I" host ∈ lw_tbl) (hst : (st.map fun v => v.category).sum ≤ 8) (d : decode cc pc = .ok (.invokevirtual index, 3)) (d2 : decode cc (pc + 3) = .ok (.getfield index2, 3)) (kk : AW G p l e (aRm k K (10 * K)) s m args below meth c A nL Q (OW h0 n0 u0 E K σ) (pc + 3 + 3) L (.int (B.getD i.toNatClampNeg 0) :: st)) : AW G p l e (aRm k K (10 * K)) s m args below meth c A nL Q (OW h0 n0 u0 E K σ) pc L (.int i :: .ref r :: st) := by
  obtain ⟨t, r2, rfl⟩ := List.exists_cons_of_ne_nil (l := B) (fun z => by rw [z] at hi; exact absurd hi (by simp only [List.length_nil]; omega))
  have hii : nI i.toNatClampNeg = i := by
    have h9 : (0 : Int) ≤ i.toInt := by
      have := Int32.not_lt.mp hi0
      simpa using Int32.le_iff_toInt_le.mp this
    exact (by rw [Int32.toNatClampNeg] ; exact nI_back9 h9)
  refine a_callVC C (vs := [.int i]) (mc := 0) (ms := 0) (k1 := 14) (ci := 5) (r0 := (RX7, TX7, 2)) (X := Nat × AH × Nat × Nat) (fun x => some (.ref x.1)) (fun x => OW h0 n0 u0 E K σ x.2.1 x.2.2.1 x.2.2.2 ∧ ∃ b, x.2.1 x.1 = some (.inr (5, [.int ((t :: r2).getD i.toNatClampNeg 0), va_rf b]))) (fun x => aIs x.2.1 x.2.2.1 x.2.2.2) hk (by decide) (fun h n u hV => ?_) rfl (fun h n u hV => ?_) q90 hlink q1748 q1749 (lw_meth q1750) sg_X7_at (o_room0 hs) hst d (fun x hx => ?_)
  · have hct := ct_X7_at l G r2 t i.toNatClampNeg 14 r h n u (by simp only [List.length_cons] at h12; omega) hi (by omega) (hV.1.2.2.2.2.2.2 _ _ hm)
    rw [hii] at hct
    exact hct.post fun rv h1 n1 u1 qq => by obtain ⟨x, e1, e2, rfl, rfl, rfl⟩ := qq; exact ⟨(x, _, _, _), e1, ⟨hV, e2⟩, rfl, rfl, rfl⟩
  · obtain ⟨_, _, e, he, -⟩ := hV.1.2.2.2.2.2.2 _ _ hm
    cases e
    exact ⟨_, he⟩
  · obtain ⟨hV, b, hx2⟩ := hx
    refine a_getfN C (ref := "MaltDrums$Entry") (v := .int ((t :: r2).getD i.toNatClampNeg 0)) in_X7 (ci := 5) rfl 0 (by decide) hlink2 rfl (fun h n u hI => by obtain ⟨rfl, rfl, rfl⟩ := hI; exact ⟨_, hx2, rfl⟩) d2 ?_
    exact a_world (fun h n u hI => by obtain ⟨rfl, rfl, rfl⟩ := hI; exact hV) kk
end BkRows
