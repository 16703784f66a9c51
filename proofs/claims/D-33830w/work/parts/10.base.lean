set_option maxRecDepth 100000
/-! BASE: the heap as a partial function from addresses to cells; a judgement AW that hides the machine's heap behind a world V h n u (h: the cells known, n: how many cells there are, u: how many slots they have) -/
abbrev aCl : List vw_C := [(RX1, TX1, 4), (RX2, TX2, 22), (RX4, TX4, 1), (RX5, TX5, 4), (RX6, TX6, 9), (RX7, TX7, 2), (RX8, TX8, 3), (RX9, TX9, 3), (RX10, TX10, 6), (RJ2, TJ2, 3), (RJ4, TJ4, 4), (RJ5, TJ5, 4), (RJ22, TJ22, 3)]
abbrev aE : Type := (Nat × vp_A) ⊕ (Nat × List Value)
abbrev AH : Type := Nat → Option aE
abbrev aG : Type := va_G × (Nat → ClassId) × (Nat → Nat)
abbrev aWd : Type := AH → Nat → Nat → Prop
def cv (G : aG) (e : aE) : va_E := match e with
  | .inl x => .inl (G.2.1 x.1, x.2)
  | .inr o => .inr o
def a_R (G : aG) (h : AH) (H : Heap) : Prop := ∀ (a : Nat) (e : aE), h a = some e → va_at G.1 aCl (a, cv G e) H
def a_up (h : AH) (a : Nat) (e : aE) : AH := fun q => if q = a then some e else h q
theorem a_up_self {h : AH} {a : Nat} {e : aE} : a_up h a e a = some e := if_pos rfl
theorem a_up_ne {h : AH} {a q : Nat} {e : aE} (hq : q ≠ a) : a_up h a e q = h q := if_neg hq
def aTys (G : aG) : List (ClassId × FieldType) := [(G.2.1 0, .int), (G.2.1 1, .long), (G.2.1 2, .byte), (G.2.1 3, .object "java/lang/Object"), (G.2.1 4, .object "MaltDrums$Drum")]
theorem a_R.one {G : aG} {h : AH} {H : Heap} (hR : a_R G h H) {a : Nat} {e : aE} (ha : h a = some e) : va_P G.1 aCl [(a, cv G e)] H := by
  intro k q hk
  match k, hk with
  | 0, hk => cases hk; exact hR a e ha
  | k + 1, hk => simp at hk
theorem a_R.two {G : aG} {h : AH} {H : Heap} (hR : a_R G h H) {a b : Nat} {e f : aE} (ha : h a = some e) (hb : h b = some f) : va_P G.1 aCl [(a, cv G e), (b, cv G f)] H := by
  intro k q hk
  match k, hk with
  | 0, hk => cases hk; exact hR a e ha
  | 1, hk => cases hk; exact hR b f hb
  | k + 2, hk => simp at hk
theorem a_R.lt {G : aG} {h : AH} {H : Heap} (hR : a_R G h H) {a : Nat} {e : aE} (ha : h a = some e) : a < H.size := (hR a e ha).lt
theorem a_R.put {G : aG} {h : AH} {H H1 : Heap} (hR : a_R G h H) {a : Nat} {e : aE} (he : va_at G.1 aCl (a, cv G e) H1) (oq : ∀ q : Nat, q ≠ a → H1[q]? = H[q]?) : a_R G (a_up h a e) H1 := by
  intro q f hq
  by_cases z : q = a
  · subst z
    rw [a_up_self] at hq
    cases hq
    exact he
  · rw [a_up_ne z] at hq
    exact (hR q f hq).kept (oq q z)
theorem a_R.push {G : aG} {h : AH} {H H1 : Heap} (hR : a_R G h H) {e : aE} (he : va_at G.1 aCl (H.size, cv G e) H1) (oq : ∀ q : Nat, q < H.size → H1[q]? = H[q]?) : a_R G (a_up h H.size e) H1 := by
  intro q f hq
  by_cases z : q = H.size
  · subst z
    rw [a_up_self] at hq
    cases hq
    exact he
  · rw [a_up_ne z] at hq
    exact (hR q f hq).kept (oq q (hR.lt hq))
/-! slots in use -/
def slT (H : Heap) : Nat := H.foldl (fun n c => n + c.slots.size) 0
theorem slT_fold (L : List Cell) : ∀ a : Nat, L.foldl (fun n c => n + c.slots.size) a = a + (L.map (fun c => c.slots.size)).sum := by
  induction L with
  | nil => intro a; simp
  | cons x r ih => intro a; rw [List.foldl_cons, ih, List.map_cons, List.sum_cons]; omega
theorem slT_eq (H : Heap) : slT H = (H.toList.map (fun c => c.slots.size)).sum := by
  unfold slT
  rw [← Array.foldl_toList, slT_fold, Nat.zero_add]
theorem slT_push (H : Heap) (x : Cell) : slT (H.push x) = slT H + x.slots.size := by
  rw [slT_eq, slT_eq, Array.toList_push, List.map_append, List.sum_append]
  simp
theorem slT_pt {H H1 : Heap} (hq : ∀ q : Nat, (H1[q]?).map (fun c => c.slots.size) = (H[q]?).map (fun c => c.slots.size)) : slT H1 = slT H := by
  rw [slT_eq, slT_eq]
  refine congrArg List.sum (List.ext_getElem? fun i => ?_)
  have := hq i
  simpa using this
theorem slT_put {H H1 : Heap} {a : Nat} {x y : Cell} (h0 : H[a]? = some x) (h1 : H1[a]? = some y) (hs : y.slots.size = x.slots.size) (oq : ∀ q : Nat, q ≠ a → H1[q]? = H[q]?) : slT H1 = slT H := by
  refine slT_pt fun q => ?_
  by_cases z : q = a
  · subst z
    rw [h0, h1]
    simp [hs]
  · rw [oq q z]
theorem a_setSlot_size (x : Cell) (i : Nat) (v : Value) : (x.setSlot i v).slots.size = x.slots.size := by simp [Cell.setSlot]
section Tight
variable {p : Program} {l : Launch} {e : Env} {R : Room} {s : State} {m : MethodId} {args : Array Value} {below : List Frame} {meth : Method} {c : Code} {T : State} {locs : List Loc} {cells slots : Nat} {H : Heap} {Q : State → Prop}
theorem stand_tight (X : Stand p l e R s m args below meth c T locs cells slots) : Stand p l e R s m args below meth c T locs (T.heap.size - s.heap.size) (slT T.heap - slT s.heap) := by
  have hb := X.book
  have h0 : s.slotsTrue = true := by
    have h := X.room
    simp only [State.hasRoom, Bool.and_eq_true] at h
    exact h.2
  have h1 : T.slotsUsed = slT T.heap := by
    have h := hb
    unfold State.slotsTrue at h
    exact eq_of_beq h
  have h2 : s.slotsUsed = slT s.heap := by
    have h := h0
    unfold State.slotsTrue at h
    exact eq_of_beq h
  obtain ⟨a1, a2, a3, a4, a5, a6⟩ := X.same
  have b2 : s.heap.size ≤ T.heap.size := a2
  have b4 : T.slotsUsed = s.slotsUsed + ((T.heap.toList.drop s.heap.size).map (fun c => c.slots.size)).sum := a4
  have b5 : ((T.heap.toList.drop s.heap.size).map (fun c => c.slots.size)).sum ≤ slT T.heap - slT s.heap := by omega
  exact { X with same := ⟨a1, a2, (by show T.heap.size ≤ s.heap.size + (T.heap.size - s.heap.size); omega), a4, b5, a6⟩ }
theorem W_tight {g : JFrame} (k : W p l e R s m args below meth c H locs (H.size - s.heap.size) (slT H - slT s.heap) Q g) : W p l e R s m args below meth c H locs cells slots Q g := by
  intro T hT X
  subst hT
  exact k T rfl (stand_tight X)
/-- what a walk knows of the sizes -/
theorem W_sized {g : JFrame} (k : s.heap.size ≤ H.size → H.size ≤ s.heap.size + cells → slT s.heap ≤ slT H → slT H ≤ slT s.heap + slots → W p l e R s m args below meth c H locs cells slots Q g) : W p l e R s m args below meth c H locs cells slots Q g := by
  intro T hT X
  subst hT
  have hb := X.book
  have h0 : s.slotsTrue = true := by
    have h := X.room
    simp only [State.hasRoom, Bool.and_eq_true] at h
    exact h.2
  have h1 : T.slotsUsed = slT T.heap := by
    have h := hb
    unfold State.slotsTrue at h
    exact eq_of_beq h
  have h2 : s.slotsUsed = slT s.heap := by
    have h := h0
    unfold State.slotsTrue at h
    exact eq_of_beq h
  obtain ⟨a1, a2, a3, a4, a5, a6⟩ := X.same
  have b4 : T.slotsUsed = s.slotsUsed + ((T.heap.toList.drop s.heap.size).map (fun c => c.slots.size)).sum := a4
  have b5 : ((T.heap.toList.drop s.heap.size).map (fun c => c.slots.size)).sum ≤ slots := a5
  exact k a2 a3 (by omega) (by omega) T rfl X
end Tight
/-! locals as a list by place -/
def a_L : Nat → List (Option Value) → List (Nat × Value)
  | _, [] => []
  | i, none :: r => a_L (i + 1) r
  | i, some v :: r => (i, v) :: a_L (i + 1) r
theorem a_L_mem : ∀ (L : List (Option Value)) (i : Nat) (q : Nat × Value), q ∈ a_L i L ↔ ∃ j : Nat, L[j]? = some (some q.2) ∧ q.1 = i + j
  | [], i, q => by simp [a_L]
  | none :: r, i, q => by
    rw [a_L, a_L_mem r (i + 1) q]
    constructor
    · rintro ⟨j, h1, h2⟩
      exact ⟨j + 1, by simpa using h1, by omega⟩
    · rintro ⟨j, h1, h2⟩
      cases j with
      | zero => simp at h1
      | succ j => exact ⟨j, by simpa using h1, by omega⟩
  | some v :: r, i, q => by
    rw [a_L, List.mem_cons, a_L_mem r (i + 1) q]
    constructor
    · rintro (rfl | ⟨j, h1, h2⟩)
      · exact ⟨0, by simp, by simp⟩
      · exact ⟨j + 1, by simpa using h1, by omega⟩
    · rintro ⟨j, h1, h2⟩
      cases j with
      | zero =>
        left
        simp at h1
        obtain ⟨q1, q2⟩ := q
        simp at h1 h2
        subst h1; subst h2
        rfl
      | succ j => exact Or.inr ⟨j, by simpa using h1, by omega⟩
theorem a_get {ls : Array Slot} {nL : Nat} {L : List (Option Value)} (hl : lv_has ls nL (a_L 0 L)) {k : Nat} {v : Value} (h : L[k]? = some (some v)) : ls[k]? = some (.val v) := hl.2.2 (k, v) ((a_L_mem L 0 (k, v)).mpr ⟨k, h, by simp⟩)
def a_c1 : Option Value → Bool
  | none => true
  | some v => v.category == 1
theorem a_c1q {r : Option Nat} : a_c1 (some (va_rf r)) = true := by cases r <;> rfl
theorem a_set {ls : Array Slot} {nL : Nat} {L : List (Option Value)} {i : Nat} {v : Value} (hc : ∀ (j : Nat) (x : Option Value), j + 1 = i → L[j]? = some x → a_c1 x = true) (h : lv_has ls nL ((i, v) :: (a_L 0 L).filter (fun q => !(q.1 == i) && !(q.1 + 1 == i && q.2.category == 2)))) : lv_has ls nL (a_L 0 (L.set i (some v))) := by
  refine ⟨h.1, h.2.1, fun q hq => h.2.2 q ?_⟩
  obtain ⟨j, h1, h2⟩ := (a_L_mem _ 0 q).mp hq
  rw [Nat.zero_add] at h2
  by_cases hj : j = i
  · subst hj
    by_cases hlt : j < L.length
    · rw [List.getElem?_set_self hlt] at h1
      obtain ⟨q1, q2⟩ := q
      simp at h1 h2
      subst h1; subst h2
      exact List.mem_cons_self
    · rw [List.getElem?_eq_none (by rw [List.length_set]; omega)] at h1
      cases h1
  · rw [List.getElem?_set_ne (Ne.symm hj)] at h1
    refine List.mem_cons_of_mem _ (List.mem_filter.mpr ⟨(a_L_mem L 0 q).mpr ⟨j, h1, by omega⟩, ?_⟩)
    have e1 : (q.1 == i) = false := by simp; omega
    rw [e1]
    by_cases e2 : q.1 + 1 = i
    · have hcat := hc j _ (by omega) h1
      have hcat : q.2.category = 1 := by simpa [a_c1] using hcat
      simp [hcat]
    · have e3 : (q.1 + 1 == i) = false := by simp; omega
      rw [e3]
      rfl
theorem a_hc {L : List (Option Value)} {i : Nat} {z : Option Value} (hz : L[i]? = some z) (hc : a_c1 z = true) : ∀ (j : Nat) (x : Option Value), j + 1 = i + 1 → L[j]? = some x → a_c1 x = true := by
  intro j x hj hx
  have hji : j = i := by omega
  subst hji
  rw [hz] at hx
  cases hx
  exact hc
theorem a_hc0 {L : List (Option Value)} : ∀ (j : Nat) (x : Option Value), j + 1 = 0 → L[j]? = some x → a_c1 x = true := fun j x hj hx => by omega
/-- a list of locals that says less -/
def a_le (L' L : List (Option Value)) : Prop := ∀ (j : Nat) (v : Value), L'[j]? = some (some v) → L[j]? = some (some v)
theorem a_le_nil : a_le [] [] := fun _ _ h => h
theorem a_le_none {L' L : List (Option Value)} {x : Option Value} (h : a_le L' L) : a_le (none :: L') (x :: L) := by
  intro j v hj
  cases j with
  | zero => simp at hj
  | succ j => simpa using h j v (by simpa using hj)
theorem a_le_some {L' L : List (Option Value)} {x : Option Value} (h : a_le L' L) : a_le (x :: L') (x :: L) := by
  intro j v hj
  cases j with
  | zero => simpa using hj
  | succ j => simpa using h j v (by simpa using hj)
theorem a_le.has {ls : Array Slot} {nL : Nat} {L' L : List (Option Value)} (h : a_le L' L) (hl : lv_has ls nL (a_L 0 L)) : lv_has ls nL (a_L 0 L') := by
  refine ⟨hl.1, hl.2.1, fun q hq => hl.2.2 q ?_⟩
  obtain ⟨j, h1, h2⟩ := (a_L_mem _ 0 q).mp hq
  exact (a_L_mem _ 0 q).mpr ⟨j, h j _ h1, h2⟩
/-! the tables' words that don't ride in the lists -/
def nwk : Cond → Bool
  | .fieldLinkNest .. => true
  | .methodLinkNest .. => true
  | .castable .. => true
  | .declares .. => true
  | .arrayOver (.object _) => true
  | _ => false
theorem nw_warm {s U : State} (hW : s.WarmedH U.vm) : ∀ (w : Cond), nwk w = true → va_Nw w s → va_Nw w U := by
  intro w hk h
  cases w <;> first
    | exact va_Nw.warmF hW h
    | exact va_Nw.warmM hW h
    | exact va_Nw.warmC hW h
    | exact va_Nw.warmD hW h
    | (rename_i ty; cases ty <;> first | exact va_AO.moved hW.alike h | cases hk)
    | cases hk
def nwOK (U : State) : Prop := ∀ w ∈ lw_tbl, nwk w = true → va_Nw w U
abbrev yBd_air : MethodName := ⟨RX3, "air", "()I"⟩
abbrev yBd_dew : MethodName := ⟨RX3, "dew", "()I"⟩
abbrev yBd_turn : MethodName := ⟨RX3, "turn", "()I"⟩
abbrev yBd_isHeap : MethodName := ⟨RX3, "isHeap", "()Z"⟩
abbrev yLs_add : MethodName := ⟨"java/util/List", "add", "(Ljava/lang/Object;)Z"⟩
abbrev yLs_get : MethodName := ⟨"java/util/List", "get", "(I)Ljava/lang/Object;"⟩
abbrev yLs_size : MethodName := ⟨"java/util/List", "size", "()I"⟩
def fwL : List (String × MethodName × MethodName) := [(RX5, yBd_air, yX5_air), (RX4, yBd_air, yX4_air), (RX5, yBd_dew, yX5_dew), (RX5, yBd_turn, yX5_turn), (RX5, yBd_isHeap, yX5_isHeap), (RJ22, yLs_add, yJ22_add), (RJ22, yLs_get, yJ22_get), (RJ22, yLs_size, yJ22_size)]
def fwOK (U : State) : Prop := ∀ q ∈ fwL, va_Fw q.1 q.2.1 q.2.2 U
theorem fw_cls : ∀ q ∈ fwL, q.2.1.cls ≠ "java/lang/invoke/MethodHandle" ∧ q.2.1.cls ≠ "java/lang/invoke/VarHandle" := by decide +kernel
/-- what a call through an interface asks that lands in its default -/
def aFD (C : String) (x : MethodName) (U : State) : Prop := (Cond.declares x).before #[] U = true ∧ (Cond.interfaceMethod x.cls x.cls x.name x.desc).before #[] U = true ∧ (Cond.publicMethod x).before #[] U = true ∧ (Cond.landsInDefault C x x).before #[] U = true ∧ (Cond.castable C x.cls).before #[] U = true
theorem aFD.moved {C : String} {x : MethodName} (hx : x.cls ≠ "java/lang/invoke/MethodHandle" ∧ x.cls ≠ "java/lang/invoke/VarHandle") {u U : State} (hvm : u.vm.Alike U.vm) (h : aFD C x u) : aFD C x U := by
  obtain ⟨h1, h2, h3, h4, h5⟩ := h
  obtain ⟨r, meth, hn, -⟩ := Cond.declares_spec h1
  have tr : ∀ {c : Cond}, c.onTables = true → c.before #[] (u.setVm U.vm) = true → c.before #[] U = true := by
    intro c hc h
    have e := Cond.onTables_vm (A := #[]) (A' := #[]) (U := u) (U' := U) U.vm c hc
    have hU : U.setVm U.vm = U := rfl
    rw [hU] at e
    rw [← e]
    exact h
  exact ⟨tr rfl (by rw [Cond.declares_setVm hvm]; exact h1), tr rfl (by rw [Cond.interfaceMethod_setVm hvm (r := r) hn hx]; exact h2), tr rfl (by rw [Cond.publicMethod_setVm hvm]; exact h3), (show (Cond.landsInDefault C x x).before #[] U = (Cond.landsInDefault C x x).before #[] (u.setVm U.vm) from rfl).trans (by rw [Cond.landsInDefault_setVm (args := #[]) hvm (State.methodFound?_setVm hvm _ _ _)]; exact h4), tr rfl (by rw [Cond.castable_setVm hvm]; exact h5)⟩
def fdL : List (String × MethodName) := [(RX4, yX3_dew), (RX4, yX3_turn), (RX4, yX3_isHeap)]
def fdOK (U : State) : Prop := ∀ q ∈ fdL, aFD q.1 q.2 U
theorem fd_cls : ∀ q ∈ fdL, q.2.cls ≠ "java/lang/invoke/MethodHandle" ∧ q.2.cls ≠ "java/lang/invoke/VarHandle" := by decide +kernel
/-- private methods of a class above -/
def pvL : List MethodName := [yJ3_ensureCapacityInternal, yJ3_newCapacity]
def pvOK (U : State) : Prop := ∀ y ∈ pvL, (Cond.privateMethod y).before #[] U = true
theorem pv_moved {y : MethodName} {u U : State} (hvm : u.vm.Alike U.vm) (h : (Cond.privateMethod y).before #[] u = true) : (Cond.privateMethod y).before #[] U = true := by
  have e := Cond.onTables_vm (A := #[]) (A' := #[]) (U := u) (U' := U) U.vm (.privateMethod y) rfl
  have hU : U.setVm U.vm = U := rfl
  rw [hU] at e
  rw [← e, Cond.privateMethod_setVm hvm]
  exact h
/-- classes that aren't of another -/
def ncL : List (String × String) := [("java/lang/IllegalArgumentException", "java/lang/IllegalStateException"), ("java/lang/IllegalArgumentException", "java/lang/IndexOutOfBoundsException"), ("java/lang/IllegalStateException", "java/lang/IllegalArgumentException"), ("java/lang/IllegalStateException", "java/lang/IndexOutOfBoundsException"), ("java/lang/IndexOutOfBoundsException", "java/lang/IllegalArgumentException"), ("java/lang/IndexOutOfBoundsException", "java/lang/IllegalStateException")]
def ncOK (U : State) : Prop := ∀ q ∈ ncL, va_Nc q.1 q.2 U
def aK (G : aG) (U : State) : Prop := va_K G.1 aCl (aTys G) U ∧ nwOK U ∧ fwOK U ∧ fdOK U ∧ pvOK U ∧ ncOK U ∧ va_Mi "[Ljava/lang/Object;" (G.2.2 200) U
theorem aK.warm {G : aG} {s U : State} (hW : s.WarmedH U.vm) (h : aK G s) : aK G U := ⟨va_K.moved hW.alike h.1, fun w hw hk => nw_warm hW w hk (h.2.1 w hw hk), fun q hq => va_Fw.moved (fw_cls q hq) hW.alike (h.2.2.1 q hq), fun q hq => aFD.moved (fd_cls q hq) hW.alike (h.2.2.2.1 q hq), fun y hy => pv_moved hW.alike (h.2.2.2.2.1 y hy), fun q hq => va_Nc.moved hW.alike (h.2.2.2.2.2.1 q hq), va_Mi.moved hW.alike h.2.2.2.2.2.2⟩
theorem aK.calling {G : aG} {U : State} {g : JFrame} {mk : MethodId} {a : Array Value} (h : aK G U) : aK G (U.calling g mk a) :=
  ⟨va_K.moved (u := U) (U := U.calling g mk a) (Vm.Alike.refl U.vm) h.1, fun w hw hk => by
    have h1 := h.2.1 w hw hk
    exact nw_warm (s := U) (U := U.calling g mk a) (State.WarmedH.refl U) w hk h1, fun q hq => va_Fw.moved (u := U) (U := U.calling g mk a) (fw_cls q hq) (Vm.Alike.refl U.vm) (h.2.2.1 q hq), fun q hq => aFD.moved (u := U) (U := U.calling g mk a) (fd_cls q hq) (Vm.Alike.refl U.vm) (h.2.2.2.1 q hq), fun y hy => pv_moved (u := U) (U := U.calling g mk a) (Vm.Alike.refl U.vm) (h.2.2.2.2.1 y hy), fun q hq => va_Nc.moved (u := U) (U := U.calling g mk a) (Vm.Alike.refl U.vm) (h.2.2.2.2.2.1 q hq), va_Mi.moved (u := U) (U := U.calling g mk a) (Vm.Alike.refl U.vm) h.2.2.2.2.2.2⟩
/-- the String constants: class, entry, text, bytes -/
def aStrs : List (String × Nat × String × List Int32) := [("MaltDrums$Reader", 55, "", []), ("MaltDrums$Reader", 62, "+", [43]), ("MaltDrums$Reader", 68, "s", [115]), ("MaltDrums$Reader", 70, "h", [104]), ("MaltDrums$Reader", 72, "k", [107]), ("MaltDrums$Reader", 74, "p", [112]), ("MaltDrums$Reader", 76, "d", [100]), ("MaltDrums$Reader", 78, "l", [108]), ("MaltDrums$Reader", 80, "a", [97]), ("MaltDrums$Reader", 82, "w", [119]), ("MaltDrums$Reader", 84, "t", [116]), ("MaltDrums$Reader", 86, "n", [110]), ("MaltDrums", 208, "+", [43]), ("MaltDrums", 214, "s", [115]), ("MaltDrums", 216, "d", [100]), ("MaltDrums", 218, "h", [104]), ("MaltDrums", 220, "k", [107]), ("MaltDrums", 222, "p", [112]), ("MaltDrums", 224, "l", [108]), ("MaltDrums", 229, "a", [97]), ("MaltDrums", 231, "w", [119]), ("MaltDrums", 233, "t", [116]), ("MaltDrums", 3, "there is none", [116, 104, 101, 114, 101, 32, 105, 115, 32, 110, 111, 110, 101]), ("MaltDrums", 11, "out of range", [111, 117, 116, 32, 111, 102, 32, 114, 97, 110, 103, 101]), ("MaltDrums", 16, "not possible", [110, 111, 116, 32, 112, 111, 115, 115, 105, 98, 108, 101]), ("MaltDrums", 235, "orders", [111, 114, 100, 101, 114, 115])]
def aStr (q v : Nat) (x : String × Nat × String × List Int32) (A : Nat → Prop) (U : State) (H : Heap) : Prop :=
  vk_R x.1 x.2.1 x.2.2.1 q U ∧ va_O "java/lang/String" q A U H ∧ va_OF "java/lang/String" "coder" "B" (.int 0) q A U H ∧ va_OF "java/lang/String" "value" "[B" (.ref v) q A U H ∧ va_T .byte v x.2.2.2.length (fun j => .int (x.2.2.2.getD j 0)) A U H
theorem aStr.warm {q v : Nat} {x : String × Nat × String × List Int32} {A : Nat → Prop} {s U : State} {H : Heap} (hW : s.WarmedH U.vm) (h : aStr q v x A s H) : aStr q v x A U H := ⟨vk_R.warm hW h.1, va_O.moved hW.alike h.2.1, va_OF.moved hW.alike h.2.2.1, va_OF.moved hW.alike h.2.2.2.1, va_T.moved hW.alike h.2.2.2.2⟩
theorem aStr.kept {q v : Nat} {x : String × Nat × String × List Int32} {A : Nat → Prop} {U : State} {H H1 : Heap} (h : aStr q v x A U H) (hq : ∀ a : Nat, a < H.size → ¬ A a → H1[a]? = H[a]?) : aStr q v x A U H1 := ⟨h.1, h.2.1.kept hq, h.2.2.1.kept hq, h.2.2.2.1.kept hq, h.2.2.2.2.kept hq⟩
theorem aStr.narrow {q v : Nat} {x : String × Nat × String × List Int32} {A B : Nat → Prop} {U : State} {H : Heap} (h : aStr q v x A U H) (hAB : ∀ q, B q → A q) : aStr q v x B U H := ⟨h.1, h.2.1.narrow hAB, h.2.2.1.narrow hAB, h.2.2.2.1.narrow hAB, h.2.2.2.2.narrow hAB⟩
/-- statics and constants that nobody writes: their cells are none of the method's own -/
def aSC (G : aG) (A : Nat → Prop) (U : State) (H : Heap) : Prop :=
  va_Z "java/lang/String" "COMPACT_STRINGS" "Z" (.int 1) A U H ∧ vx_Zq Bundle.tN "UNASSIGNED_STACK" Bundle.steD A U H ∧ vx_Zq Bundle.tN "SUPPRESSED_SENTINEL" Bundle.listD A U H ∧ va_Zq "jdk/internal/util/Preconditions" "SIOOBE_FORMATTER" "Ljava/util/function/BiFunction;" A U H ∧ (va_Z "java/util/ArrayList" "DEFAULTCAPACITY_EMPTY_ELEMENTDATA" "[Ljava/lang/Object;" (.ref (G.2.2 0)) A U H ∧ va_T (.object "java/lang/Object") (G.2.2 0) 0 (fun _ => .null) A U H) ∧ (va_OF "java/lang/String" "hash" "I" (.int 0) (G.2.2 1) A U H ∧ va_OF "java/lang/String" "hashIsZero" "Z" (.int 1) (G.2.2 1) A U H) ∧ ∀ (i : Nat) (x : String × Nat × String × List Int32), aStrs[i]? = some x → aStr (G.2.2 (1 + i)) (G.2.2 (101 + i)) x A U H
theorem aSC.warm {G : aG} {A : Nat → Prop} {s U : State} {H : Heap} (hW : s.WarmedH U.vm) (h : aSC G A s H) : aSC G A U H := ⟨va_Z.moved hW.alike h.1, vx_Zq.moved hW.alike h.2.1, vx_Zq.moved hW.alike h.2.2.1, va_Zq.moved hW.alike h.2.2.2.1, ⟨va_Z.moved hW.alike h.2.2.2.2.1.1, va_T.moved hW.alike h.2.2.2.2.1.2⟩, ⟨va_OF.moved hW.alike h.2.2.2.2.2.1.1, va_OF.moved hW.alike h.2.2.2.2.2.1.2⟩, fun i x hx => (h.2.2.2.2.2.2 i x hx).warm hW⟩
theorem aSC.kept {G : aG} {A : Nat → Prop} {U : State} {H H1 : Heap} (h : aSC G A U H) (hq : ∀ a : Nat, a < H.size → ¬ A a → H1[a]? = H[a]?) : aSC G A U H1 := ⟨h.1.kept hq, h.2.1.kept hq, h.2.2.1.kept hq, h.2.2.2.1.kept hq, ⟨h.2.2.2.2.1.1.kept hq, h.2.2.2.2.1.2.kept hq⟩, ⟨h.2.2.2.2.2.1.1.kept hq, h.2.2.2.2.2.1.2.kept hq⟩, fun i x hx => (h.2.2.2.2.2.2 i x hx).kept hq⟩
theorem aSC.narrow {G : aG} {A B : Nat → Prop} {U : State} {H : Heap} (h : aSC G A U H) (hAB : ∀ q, B q → A q) : aSC G B U H := ⟨h.1.narrow hAB, h.2.1.narrow hAB, h.2.2.1.narrow hAB, h.2.2.2.1.narrow hAB, ⟨h.2.2.2.2.1.1.narrow hAB, h.2.2.2.2.1.2.narrow hAB⟩, ⟨h.2.2.2.2.2.1.1.narrow hAB, h.2.2.2.2.2.1.2.narrow hAB⟩, fun i x hx => (h.2.2.2.2.2.2 i x hx).narrow hAB⟩
/-! the judgement -/
def a_A (h0 : AH) (n0 : Nat) : Nat → Prop := fun q => h0 q ≠ none ∨ n0 ≤ q
def Cx (G : aG) (p : Program) (l : Launch) (s : State) (m : MethodId) (args : Array Value) (meth : Method) (c : Code) (A : Nat → Prop) (y : MethodName) (cc : ByteArray) (nL : Nat) (rt : Option FieldType) : Prop :=
  p.tables.exec = Jvm.exec ∧ c.code = cc ∧ c.maxLocals = nL ∧ s.vm.findClass y.cls = some m.cls ∧ (∀ w ∈ lw_all, w.before args s = true) ∧ meth.locks = false ∧ meth.sig.returnType = rt ∧ aK G s ∧ (∀ q, s.heap.size ≤ q → A q) ∧ aSC G A s s.heap ∧ meth.name = y.name ∧ l.flags = flags0
def AW (G : aG) (p : Program) (l : Launch) (e : Env) (R : Room) (s : State) (m : MethodId) (args : Array Value) (below : List Frame) (meth : Method) (c : Code) (A : Nat → Prop) (nL : Nat) (Q : State → Prop) (V : aWd) (pc : Nat) (L : List (Option Value)) (st : List Value) : Prop :=
  ∀ (h : AH) (n u : Nat), V h n u → ∀ (H : Heap) (locs : List Loc) (ls : Array Slot), H.size = n → slT H = u → a_R G h H → (∀ a e, h a = some e → A a) → va_S A s.heap H locs → lv_has ls nL (a_L 0 L) →
    W p l e R s m args below meth c H locs (n - s.heap.size) (u - slT s.heap) Q (F0 m pc ls st)
section ARows
variable {G : aG} {p : Program} {l : Launch} {e : Env} {R : Room} {s : State} {m : MethodId} {args : Array Value} {below : List Frame} {meth : Method} {c : Code} {A : Nat → Prop} {y : MethodName} {cc : ByteArray} {nL : Nat} {rt : Option FieldType} {Q : State → Prop} {V : aWd} {pc : Nat} {L : List (Option Value)} {st : List Value}
theorem a_iadd (C : Cx G p l s m args meth c A y cc nL rt) {x y : Int32} (d : decode cc pc = .ok (.iadd, 1)) (k : AW G p l e R s m args below meth c A nL Q V (pc + 1) L (.int (x + y) :: st)) : AW G p l e R s m args below meth c A nL Q V pc L (.int y :: .int x :: st) :=
  fun h n u hV H locs ls hz hu hR hA hS hl => lv_iadd C.1 C.2.1 d  (k h n u hV H locs ls hz hu hR hA hS hl)
theorem a_isub (C : Cx G p l s m args meth c A y cc nL rt) {x y : Int32} (d : decode cc pc = .ok (.isub, 1)) (k : AW G p l e R s m args below meth c A nL Q V (pc + 1) L (.int (x - y) :: st)) : AW G p l e R s m args below meth c A nL Q V pc L (.int y :: .int x :: st) :=
  fun h n u hV H locs ls hz hu hR hA hS hl => lv_isub C.1 C.2.1 d  (k h n u hV H locs ls hz hu hR hA hS hl)
theorem a_imul (C : Cx G p l s m args meth c A y cc nL rt) {x y : Int32} (d : decode cc pc = .ok (.imul, 1)) (k : AW G p l e R s m args below meth c A nL Q V (pc + 1) L (.int (x * y) :: st)) : AW G p l e R s m args below meth c A nL Q V pc L (.int y :: .int x :: st) :=
  fun h n u hV H locs ls hz hu hR hA hS hl => lv_imul C.1 C.2.1 d  (k h n u hV H locs ls hz hu hR hA hS hl)
theorem a_iand (C : Cx G p l s m args meth c A y cc nL rt) {x y : Int32} (d : decode cc pc = .ok (.iand, 1)) (k : AW G p l e R s m args below meth c A nL Q V (pc + 1) L (.int (x &&& y) :: st)) : AW G p l e R s m args below meth c A nL Q V pc L (.int y :: .int x :: st) :=
  fun h n u hV H locs ls hz hu hR hA hS hl => lv_iand C.1 C.2.1 d  (k h n u hV H locs ls hz hu hR hA hS hl)
theorem a_ior (C : Cx G p l s m args meth c A y cc nL rt) {x y : Int32} (d : decode cc pc = .ok (.ior, 1)) (k : AW G p l e R s m args below meth c A nL Q V (pc + 1) L (.int (x ||| y) :: st)) : AW G p l e R s m args below meth c A nL Q V pc L (.int y :: .int x :: st) :=
  fun h n u hV H locs ls hz hu hR hA hS hl => lv_ior C.1 C.2.1 d  (k h n u hV H locs ls hz hu hR hA hS hl)
theorem a_ixor (C : Cx G p l s m args meth c A y cc nL rt) {x y : Int32} (d : decode cc pc = .ok (.ixor, 1)) (k : AW G p l e R s m args below meth c A nL Q V (pc + 1) L (.int (x ^^^ y) :: st)) : AW G p l e R s m args below meth c A nL Q V pc L (.int y :: .int x :: st) :=
  fun h n u hV H locs ls hz hu hR hA hS hl => lv_ixor C.1 C.2.1 d  (k h n u hV H locs ls hz hu hR hA hS hl)
theorem a_ishl (C : Cx G p l s m args meth c A y cc nL rt) {x y : Int32} (d : decode cc pc = .ok (.ishl, 1)) (k : AW G p l e R s m args below meth c A nL Q V (pc + 1) L (.int (x <<< (y &&& 31)) :: st)) : AW G p l e R s m args below meth c A nL Q V pc L (.int y :: .int x :: st) :=
  fun h n u hV H locs ls hz hu hR hA hS hl => lv_ishl C.1 C.2.1 d  (k h n u hV H locs ls hz hu hR hA hS hl)
theorem a_ishr (C : Cx G p l s m args meth c A y cc nL rt) {x y : Int32} (d : decode cc pc = .ok (.ishr, 1)) (k : AW G p l e R s m args below meth c A nL Q V (pc + 1) L (.int (x >>> (y &&& 31)) :: st)) : AW G p l e R s m args below meth c A nL Q V pc L (.int y :: .int x :: st) :=
  fun h n u hV H locs ls hz hu hR hA hS hl => lv_ishr C.1 C.2.1 d  (k h n u hV H locs ls hz hu hR hA hS hl)
theorem a_idiv (C : Cx G p l s m args meth c A y cc nL rt) {x y : Int32} (d : decode cc pc = .ok (.idiv, 1)) (hne : ¬ y = 0) (k : AW G p l e R s m args below meth c A nL Q V (pc + 1) L (.int (x / y) :: st)) : AW G p l e R s m args below meth c A nL Q V pc L (.int y :: .int x :: st) :=
  fun h n u hV H locs ls hz hu hR hA hS hl => lv_idiv C.1 C.2.1 d hne (k h n u hV H locs ls hz hu hR hA hS hl)
theorem a_irem (C : Cx G p l s m args meth c A y cc nL rt) {x y : Int32} (d : decode cc pc = .ok (.irem, 1)) (hne : ¬ y = 0) (k : AW G p l e R s m args below meth c A nL Q V (pc + 1) L (.int (x - x / y * y) :: st)) : AW G p l e R s m args below meth c A nL Q V pc L (.int y :: .int x :: st) :=
  fun h n u hV H locs ls hz hu hR hA hS hl => lv_irem C.1 C.2.1 d hne (k h n u hV H locs ls hz hu hR hA hS hl)
theorem a_ineg (C : Cx G p l s m args meth c A y cc nL rt) {x : Int32} (d : decode cc pc = .ok (.ineg, 1)) (k : AW G p l e R s m args below meth c A nL Q V (pc + 1) L (.int (-x) :: st)) : AW G p l e R s m args below meth c A nL Q V pc L (.int x :: st) :=
  fun h n u hV H locs ls hz hu hR hA hS hl => lv_ineg C.1 C.2.1 d  (k h n u hV H locs ls hz hu hR hA hS hl)
theorem a_iconst (C : Cx G p l s m args meth c A y cc nL rt) {N : Int} {v : Int32} (d : decode cc pc = .ok (.iconst N, 1)) (hv : Int32.ofInt N = v) (k : AW G p l e R s m args below meth c A nL Q V (pc + 1) L (.int v :: st)) : AW G p l e R s m args below meth c A nL Q V pc L (st) :=
  fun h n u hV H locs ls hz hu hR hA hS hl => lv_iconst C.1 C.2.1 d hv (k h n u hV H locs ls hz hu hR hA hS hl)
theorem a_bipush (C : Cx G p l s m args meth c A y cc nL rt) {N : Int} {v : Int32} (d : decode cc pc = .ok (.bipush N, 2)) (hv : (Int8.ofInt N).toInt32 = v) (k : AW G p l e R s m args below meth c A nL Q V (pc + 2) L (.int v :: st)) : AW G p l e R s m args below meth c A nL Q V pc L (st) :=
  fun h n u hV H locs ls hz hu hR hA hS hl => lv_bipush C.1 C.2.1 d hv (k h n u hV H locs ls hz hu hR hA hS hl)
theorem a_sipush (C : Cx G p l s m args meth c A y cc nL rt) {N : Int} {v : Int32} (d : decode cc pc = .ok (.sipush N, 3)) (hv : (Int16.ofInt N).toInt32 = v) (k : AW G p l e R s m args below meth c A nL Q V (pc + 3) L (.int v :: st)) : AW G p l e R s m args below meth c A nL Q V pc L (st) :=
  fun h n u hV H locs ls hz hu hR hA hS hl => lv_sipush C.1 C.2.1 d hv (k h n u hV H locs ls hz hu hR hA hS hl)
theorem a_lconst (C : Cx G p l s m args meth c A y cc nL rt) {N : Fin 2} {v : Int64} (d : decode cc pc = .ok (.lconst N, 1)) (hv : Int64.ofNat (N : Nat) = v) (k : AW G p l e R s m args below meth c A nL Q V (pc + 1) L (.long v :: st)) : AW G p l e R s m args below meth c A nL Q V pc L (st) :=
  fun h n u hV H locs ls hz hu hR hA hS hl => lv_lconst C.1 C.2.1 d hv (k h n u hV H locs ls hz hu hR hA hS hl)
theorem a_dconst0 (C : Cx G p l s m args meth c A y cc nL rt) (d : decode cc pc = .ok (.dconst 0, 1)) (k : AW G p l e R s m args below meth c A nL Q V (pc + 1) L (.double FP.dconst0 :: st)) : AW G p l e R s m args below meth c A nL Q V pc L (st) :=
  fun h n u hV H locs ls hz hu hR hA hS hl => lv_dconst0 C.1 C.2.1 d  (k h n u hV H locs ls hz hu hR hA hS hl)
theorem a_i2l (C : Cx G p l s m args meth c A y cc nL rt) {x : Int32} (d : decode cc pc = .ok (.i2l, 1)) (k : AW G p l e R s m args below meth c A nL Q V (pc + 1) L (.long x.toInt64 :: st)) : AW G p l e R s m args below meth c A nL Q V pc L (.int x :: st) :=
  fun h n u hV H locs ls hz hu hR hA hS hl => lv_i2l C.1 C.2.1 d rfl (k h n u hV H locs ls hz hu hR hA hS hl)
theorem a_i2c (C : Cx G p l s m args meth c A y cc nL rt) {x : Int32} (d : decode cc pc = .ok (.i2c, 1)) (k : AW G p l e R s m args below meth c A nL Q V (pc + 1) L (.int (x.toUInt32 % 65536).toInt32 :: st)) : AW G p l e R s m args below meth c A nL Q V pc L (.int x :: st) :=
  fun h n u hV H locs ls hz hu hR hA hS hl => lv_i2c C.1 C.2.1 d rfl (k h n u hV H locs ls hz hu hR hA hS hl)
theorem a_i2b (C : Cx G p l s m args meth c A y cc nL rt) {x : Int32} (d : decode cc pc = .ok (.i2b, 1)) (k : AW G p l e R s m args below meth c A nL Q V (pc + 1) L (.int x.toInt8.toInt32 :: st)) : AW G p l e R s m args below meth c A nL Q V pc L (.int x :: st) :=
  fun h n u hV H locs ls hz hu hR hA hS hl => lv_i2b C.1 C.2.1 d rfl (k h n u hV H locs ls hz hu hR hA hS hl)
theorem a_i2d (C : Cx G p l s m args meth c A y cc nL rt) {x : Int32} (d : decode cc pc = .ok (.i2d, 1)) (k : AW G p l e R s m args below meth c A nL Q V (pc + 1) L (.double (FP.i2d x) :: st)) : AW G p l e R s m args below meth c A nL Q V pc L (.int x :: st) :=
  fun h n u hV H locs ls hz hu hR hA hS hl => lv_i2d C.1 C.2.1 d  (k h n u hV H locs ls hz hu hR hA hS hl)
theorem a_ddiv (C : Cx G p l s m args meth c A y cc nL rt) {x y : UInt64} (d : decode cc pc = .ok (.ddiv, 1)) (hne : vf_n64 (FP.ddiv x y)) (k : AW G p l e R s m args below meth c A nL Q V (pc + 1) L (.double (FP.ddiv x y) :: st)) : AW G p l e R s m args below meth c A nL Q V pc L (.double y :: .double x :: st) :=
  fun h n u hV H locs ls hz hu hR hA hS hl => lv_ddiv C.1 C.2.1 d hne (k h n u hV H locs ls hz hu hR hA hS hl)
theorem a_dcmp (C : Cx G p l s m args meth c A y cc nL rt) {x y : UInt64} {o : CmpOp} (d : decode cc pc = .ok (.dcmp o, 1)) (k : AW G p l e R s m args below meth c A nL Q V (pc + 1) L (.int (Op.cmpValue (FP.dcmp x y) o) :: st)) : AW G p l e R s m args below meth c A nL Q V pc L (.double y :: .double x :: st) :=
  fun h n u hV H locs ls hz hu hR hA hS hl => lv_dcmp C.1 C.2.1 d  (k h n u hV H locs ls hz hu hR hA hS hl)
theorem a_lcmp (C : Cx G p l s m args meth c A y cc nL rt) {x y : Int64} (d : decode cc pc = .ok (.lcmp, 1)) (k : AW G p l e R s m args below meth c A nL Q V (pc + 1) L (.int (lg_cmp x y) :: st)) : AW G p l e R s m args below meth c A nL Q V pc L (.long y :: .long x :: st) :=
  fun h n u hV H locs ls hz hu hR hA hS hl => W.lcmp C.1 C.2.1 d  (k h n u hV H locs ls hz hu hR hA hS hl)
theorem a_null (C : Cx G p l s m args meth c A y cc nL rt) (d : decode cc pc = .ok (.aconst_null, 1)) (k : AW G p l e R s m args below meth c A nL Q V (pc + 1) L (.null :: st)) : AW G p l e R s m args below meth c A nL Q V pc L (st) :=
  fun h n u hV H locs ls hz hu hR hA hS hl => lv_null C.1 C.2.1 d  (k h n u hV H locs ls hz hu hR hA hS hl)
theorem a_dup (C : Cx G p l s m args meth c A y cc nL rt) {va : Value} (d : decode cc pc = .ok (.dup, 1)) (hva : Value.category va = 1) (k : AW G p l e R s m args below meth c A nL Q V (pc + 1) L (va :: va :: st)) : AW G p l e R s m args below meth c A nL Q V pc L (va :: st) :=
  fun h n u hV H locs ls hz hu hR hA hS hl => lv_dup C.1 C.2.1 d hva (k h n u hV H locs ls hz hu hR hA hS hl)
theorem a_pop (C : Cx G p l s m args meth c A y cc nL rt) {va : Value} (d : decode cc pc = .ok (.pop, 1)) (hva : Value.category va = 1) (k : AW G p l e R s m args below meth c A nL Q V (pc + 1) L (st)) : AW G p l e R s m args below meth c A nL Q V pc L (va :: st) :=
  fun h n u hV H locs ls hz hu hR hA hS hl => lv_pop C.1 C.2.1 d hva (k h n u hV H locs ls hz hu hR hA hS hl)
theorem a_dup_x1 (C : Cx G p l s m args meth c A y cc nL rt) {va vb : Value} (d : decode cc pc = .ok (.dup_x1, 1)) (hva : Value.category va = 1) (hvb : Value.category vb = 1) (k : AW G p l e R s m args below meth c A nL Q V (pc + 1) L (va :: vb :: va :: st)) : AW G p l e R s m args below meth c A nL Q V pc L (va :: vb :: st) :=
  fun h n u hV H locs ls hz hu hR hA hS hl => lv_dup_x1 C.1 C.2.1 d hva hvb (k h n u hV H locs ls hz hu hR hA hS hl)
theorem a_dup_x2 (C : Cx G p l s m args meth c A y cc nL rt) {va vb vd : Value} (d : decode cc pc = .ok (.dup_x2, 1)) (hva : Value.category va = 1) (hvb : Value.category vb = 1) (hvd : Value.category vd = 1) (k : AW G p l e R s m args below meth c A nL Q V (pc + 1) L (va :: vb :: vd :: va :: st)) : AW G p l e R s m args below meth c A nL Q V pc L (va :: vb :: vd :: st) :=
  fun h n u hV H locs ls hz hu hR hA hS hl => lv_dup_x2 C.1 C.2.1 d hva hvb hvd (k h n u hV H locs ls hz hu hR hA hS hl)
theorem a_dup2 (C : Cx G p l s m args meth c A y cc nL rt) {va vb : Value} (d : decode cc pc = .ok (.dup2, 1)) (hva : Value.category va = 1) (hvb : Value.category vb = 1) (k : AW G p l e R s m args below meth c A nL Q V (pc + 1) L (va :: vb :: va :: vb :: st)) : AW G p l e R s m args below meth c A nL Q V pc L (va :: vb :: st) :=
  fun h n u hV H locs ls hz hu hR hA hS hl => lv_dup2_11 C.1 C.2.1 d hva hvb (k h n u hV H locs ls hz hu hR hA hS hl)
theorem a_if_eq (C : Cx G p l s m args meth c A y cc nL rt) {x : Int32} {off : Int} (tgt : Nat) (d : decode cc pc = .ok (.ifCond .eq off, 3)) (ht : (pc : Int) + off = (tgt : Int)) (kt : (x = 0) → AW G p l e R s m args below meth c A nL Q V tgt L st) (kf : (¬ x = 0) → AW G p l e R s m args below meth c A nL Q V (pc + 3) L st) : AW G p l e R s m args below meth c A nL Q V pc L (.int x :: st) :=
  fun h n u hV H locs ls hz hu hR hA hS hl => lv_if_eq C.1 C.2.1 d ht (fun q => kt q h n u hV H locs ls hz hu hR hA hS hl) (fun q => kf q h n u hV H locs ls hz hu hR hA hS hl)
theorem a_icmp_eq (C : Cx G p l s m args meth c A y cc nL rt) {x y : Int32} {off : Int} (tgt : Nat) (d : decode cc pc = .ok (.if_icmp .eq off, 3)) (ht : (pc : Int) + off = (tgt : Int)) (kt : (x = y) → AW G p l e R s m args below meth c A nL Q V tgt L st) (kf : (¬ x = y) → AW G p l e R s m args below meth c A nL Q V (pc + 3) L st) : AW G p l e R s m args below meth c A nL Q V pc L (.int y :: .int x :: st) :=
  fun h n u hV H locs ls hz hu hR hA hS hl => lv_icmp_eq C.1 C.2.1 d ht (fun q => kt q h n u hV H locs ls hz hu hR hA hS hl) (fun q => kf q h n u hV H locs ls hz hu hR hA hS hl)
theorem a_if_lt (C : Cx G p l s m args meth c A y cc nL rt) {x : Int32} {off : Int} (tgt : Nat) (d : decode cc pc = .ok (.ifCond .lt off, 3)) (ht : (pc : Int) + off = (tgt : Int)) (kt : (x < 0) → AW G p l e R s m args below meth c A nL Q V tgt L st) (kf : (¬ x < 0) → AW G p l e R s m args below meth c A nL Q V (pc + 3) L st) : AW G p l e R s m args below meth c A nL Q V pc L (.int x :: st) :=
  fun h n u hV H locs ls hz hu hR hA hS hl => lv_if_lt C.1 C.2.1 d ht (fun q => kt q h n u hV H locs ls hz hu hR hA hS hl) (fun q => kf q h n u hV H locs ls hz hu hR hA hS hl)
theorem a_icmp_lt (C : Cx G p l s m args meth c A y cc nL rt) {x y : Int32} {off : Int} (tgt : Nat) (d : decode cc pc = .ok (.if_icmp .lt off, 3)) (ht : (pc : Int) + off = (tgt : Int)) (kt : (x < y) → AW G p l e R s m args below meth c A nL Q V tgt L st) (kf : (¬ x < y) → AW G p l e R s m args below meth c A nL Q V (pc + 3) L st) : AW G p l e R s m args below meth c A nL Q V pc L (.int y :: .int x :: st) :=
  fun h n u hV H locs ls hz hu hR hA hS hl => lv_icmp_lt C.1 C.2.1 d ht (fun q => kt q h n u hV H locs ls hz hu hR hA hS hl) (fun q => kf q h n u hV H locs ls hz hu hR hA hS hl)
theorem a_if_ge (C : Cx G p l s m args meth c A y cc nL rt) {x : Int32} {off : Int} (tgt : Nat) (d : decode cc pc = .ok (.ifCond .ge off, 3)) (ht : (pc : Int) + off = (tgt : Int)) (kt : (0 ≤ x) → AW G p l e R s m args below meth c A nL Q V tgt L st) (kf : (¬ 0 ≤ x) → AW G p l e R s m args below meth c A nL Q V (pc + 3) L st) : AW G p l e R s m args below meth c A nL Q V pc L (.int x :: st) :=
  fun h n u hV H locs ls hz hu hR hA hS hl => lv_if_ge C.1 C.2.1 d ht (fun q => kt q h n u hV H locs ls hz hu hR hA hS hl) (fun q => kf q h n u hV H locs ls hz hu hR hA hS hl)
theorem a_icmp_ge (C : Cx G p l s m args meth c A y cc nL rt) {x y : Int32} {off : Int} (tgt : Nat) (d : decode cc pc = .ok (.if_icmp .ge off, 3)) (ht : (pc : Int) + off = (tgt : Int)) (kt : (y ≤ x) → AW G p l e R s m args below meth c A nL Q V tgt L st) (kf : (¬ y ≤ x) → AW G p l e R s m args below meth c A nL Q V (pc + 3) L st) : AW G p l e R s m args below meth c A nL Q V pc L (.int y :: .int x :: st) :=
  fun h n u hV H locs ls hz hu hR hA hS hl => lv_icmp_ge C.1 C.2.1 d ht (fun q => kt q h n u hV H locs ls hz hu hR hA hS hl) (fun q => kf q h n u hV H locs ls hz hu hR hA hS hl)
theorem a_if_gt (C : Cx G p l s m args meth c A y cc nL rt) {x : Int32} {off : Int} (tgt : Nat) (d : decode cc pc = .ok (.ifCond .gt off, 3)) (ht : (pc : Int) + off = (tgt : Int)) (kt : (0 < x) → AW G p l e R s m args below meth c A nL Q V tgt L st) (kf : (¬ 0 < x) → AW G p l e R s m args below meth c A nL Q V (pc + 3) L st) : AW G p l e R s m args below meth c A nL Q V pc L (.int x :: st) :=
  fun h n u hV H locs ls hz hu hR hA hS hl => lv_if_gt C.1 C.2.1 d ht (fun q => kt q h n u hV H locs ls hz hu hR hA hS hl) (fun q => kf q h n u hV H locs ls hz hu hR hA hS hl)
theorem a_icmp_gt (C : Cx G p l s m args meth c A y cc nL rt) {x y : Int32} {off : Int} (tgt : Nat) (d : decode cc pc = .ok (.if_icmp .gt off, 3)) (ht : (pc : Int) + off = (tgt : Int)) (kt : (y < x) → AW G p l e R s m args below meth c A nL Q V tgt L st) (kf : (¬ y < x) → AW G p l e R s m args below meth c A nL Q V (pc + 3) L st) : AW G p l e R s m args below meth c A nL Q V pc L (.int y :: .int x :: st) :=
  fun h n u hV H locs ls hz hu hR hA hS hl => lv_icmp_gt C.1 C.2.1 d ht (fun q => kt q h n u hV H locs ls hz hu hR hA hS hl) (fun q => kf q h n u hV H locs ls hz hu hR hA hS hl)
theorem a_if_le (C : Cx G p l s m args meth c A y cc nL rt) {x : Int32} {off : Int} (tgt : Nat) (d : decode cc pc = .ok (.ifCond .le off, 3)) (ht : (pc : Int) + off = (tgt : Int)) (kt : (x ≤ 0) → AW G p l e R s m args below meth c A nL Q V tgt L st) (kf : (¬ x ≤ 0) → AW G p l e R s m args below meth c A nL Q V (pc + 3) L st) : AW G p l e R s m args below meth c A nL Q V pc L (.int x :: st) :=
  fun h n u hV H locs ls hz hu hR hA hS hl => lv_if_le C.1 C.2.1 d ht (fun q => kt q h n u hV H locs ls hz hu hR hA hS hl) (fun q => kf q h n u hV H locs ls hz hu hR hA hS hl)
theorem a_icmp_le (C : Cx G p l s m args meth c A y cc nL rt) {x y : Int32} {off : Int} (tgt : Nat) (d : decode cc pc = .ok (.if_icmp .le off, 3)) (ht : (pc : Int) + off = (tgt : Int)) (kt : (x ≤ y) → AW G p l e R s m args below meth c A nL Q V tgt L st) (kf : (¬ x ≤ y) → AW G p l e R s m args below meth c A nL Q V (pc + 3) L st) : AW G p l e R s m args below meth c A nL Q V pc L (.int y :: .int x :: st) :=
  fun h n u hV H locs ls hz hu hR hA hS hl => lv_icmp_le C.1 C.2.1 d ht (fun q => kt q h n u hV H locs ls hz hu hR hA hS hl) (fun q => kf q h n u hV H locs ls hz hu hR hA hS hl)
theorem a_if_ne (C : Cx G p l s m args meth c A y cc nL rt) {x : Int32} {off : Int} (tgt : Nat) (d : decode cc pc = .ok (.ifCond .ne off, 3)) (ht : (pc : Int) + off = (tgt : Int)) (kt : (¬ x = 0) → AW G p l e R s m args below meth c A nL Q V tgt L st) (kf : (x = 0) → AW G p l e R s m args below meth c A nL Q V (pc + 3) L st) : AW G p l e R s m args below meth c A nL Q V pc L (.int x :: st) :=
  fun h n u hV H locs ls hz hu hR hA hS hl => lv_if_ne C.1 C.2.1 d ht (fun q => kt q h n u hV H locs ls hz hu hR hA hS hl) (fun q => kf q h n u hV H locs ls hz hu hR hA hS hl)
theorem a_icmp_ne (C : Cx G p l s m args meth c A y cc nL rt) {x y : Int32} {off : Int} (tgt : Nat) (d : decode cc pc = .ok (.if_icmp .ne off, 3)) (ht : (pc : Int) + off = (tgt : Int)) (kt : (¬ x = y) → AW G p l e R s m args below meth c A nL Q V tgt L st) (kf : (x = y) → AW G p l e R s m args below meth c A nL Q V (pc + 3) L st) : AW G p l e R s m args below meth c A nL Q V pc L (.int y :: .int x :: st) :=
  fun h n u hV H locs ls hz hu hR hA hS hl => lv_icmp_ne C.1 C.2.1 d ht (fun q => kt q h n u hV H locs ls hz hu hR hA hS hl) (fun q => kf q h n u hV H locs ls hz hu hR hA hS hl)
theorem a_goto (C : Cx G p l s m args meth c A y cc nL rt) {off : Int} (tgt : Nat) (d : decode cc pc = .ok (.goto off, 3)) (ht : (pc : Int) + off = (tgt : Int)) (k : AW G p l e R s m args below meth c A nL Q V tgt L st) : AW G p l e R s m args below meth c A nL Q V pc L st :=
  fun h n u hV H locs ls hz hu hR hA hS hl => lv_goto C.1 C.2.1 d ht (k h n u hV H locs ls hz hu hR hA hS hl)
theorem a_ifnonnullq (C : Cx G p l s m args meth c A y cc nL rt) {b : Option Nat} {off : Int} (tgt : Nat) (d : decode cc pc = .ok (.ifnonnull off, 3)) (ht : (pc : Int) + off = (tgt : Int)) (kt : ∀ x, b = some x → AW G p l e R s m args below meth c A nL Q V tgt L st) (kf : b = none → AW G p l e R s m args below meth c A nL Q V (pc + 3) L st) : AW G p l e R s m args below meth c A nL Q V pc L (va_rf b :: st) := by
  intro h n u hV H locs ls hz hu hR hA hS hl
  cases b with
  | none => exact lv_ifnonnullN C.1 C.2.1 d (kf rfl h n u hV H locs ls hz hu hR hA hS hl)
  | some x => exact lv_ifnonnull C.1 C.2.1 d ht (kt x rfl h n u hV H locs ls hz hu hR hA hS hl)
theorem a_ifnullq (C : Cx G p l s m args meth c A y cc nL rt) {b : Option Nat} {off : Int} (tgt : Nat) (d : decode cc pc = .ok (.ifnull off, 3)) (ht : (pc : Int) + off = (tgt : Int)) (kt : b = none → AW G p l e R s m args below meth c A nL Q V tgt L st) (kf : ∀ x, b = some x → AW G p l e R s m args below meth c A nL Q V (pc + 3) L st) : AW G p l e R s m args below meth c A nL Q V pc L (va_rf b :: st) := by
  intro h n u hV H locs ls hz hu hR hA hS hl
  cases b with
  | none => exact lv_ifnullN C.1 C.2.1 d ht (kt rfl h n u hV H locs ls hz hu hR hA hS hl)
  | some x => exact lv_ifnull C.1 C.2.1 d (kf x rfl h n u hV H locs ls hz hu hR hA hS hl)
theorem a_ifnonnull (C : Cx G p l s m args meth c A y cc nL rt) {x : Nat} {off : Int} (tgt : Nat) (d : decode cc pc = .ok (.ifnonnull off, 3)) (ht : (pc : Int) + off = (tgt : Int)) (k : AW G p l e R s m args below meth c A nL Q V tgt L st) : AW G p l e R s m args below meth c A nL Q V pc L (.ref x :: st) :=
  fun h n u hV H locs ls hz hu hR hA hS hl => lv_ifnonnull C.1 C.2.1 d ht (k h n u hV H locs ls hz hu hR hA hS hl)
theorem a_ifnull (C : Cx G p l s m args meth c A y cc nL rt) {x : Nat} {off : Int} (d : decode cc pc = .ok (.ifnull off, 3)) (k : AW G p l e R s m args below meth c A nL Q V (pc + 3) L st) : AW G p l e R s m args below meth c A nL Q V pc L (.ref x :: st) :=
  fun h n u hV H locs ls hz hu hR hA hS hl => lv_ifnull C.1 C.2.1 d (k h n u hV H locs ls hz hu hR hA hS hl)
theorem a_tableIn (C : Cx G p l s m args meth c A y cc nL rt) {dflt lo hi : Int} {offs : Array Int} {len : Nat} {x : Int32} {off : Int} (tgt : Nat) (d : decode cc pc = .ok (.tableswitch dflt lo hi offs, len)) (h1 : ¬ x.toInt < lo) (h2 : ¬ hi < x.toInt) (ho : offs[(x.toInt - lo).toNat]? = some off) (ht : (pc : Int) + off = (tgt : Int)) (k : AW G p l e R s m args below meth c A nL Q V tgt L st) : AW G p l e R s m args below meth c A nL Q V pc L (.int x :: st) :=
  fun h n u hV H locs ls hz hu hR hA hS hl => lv_tableIn C.1 C.2.1 d h1 h2 ho ht (k h n u hV H locs ls hz hu hR hA hS hl)
theorem a_tableOut (C : Cx G p l s m args meth c A y cc nL rt) {dflt lo hi : Int} {offs : Array Int} {len : Nat} {x : Int32} (tgt : Nat) (d : decode cc pc = .ok (.tableswitch dflt lo hi offs, len)) (h1 : x.toInt < lo ∨ hi < x.toInt) (ht : (pc : Int) + dflt = (tgt : Int)) (k : AW G p l e R s m args below meth c A nL Q V tgt L st) : AW G p l e R s m args below meth c A nL Q V pc L (.int x :: st) :=
  fun h n u hV H locs ls hz hu hR hA hS hl => lv_tableOut C.1 C.2.1 d h1 ht (k h n u hV H locs ls hz hu hR hA hS hl)
theorem a_lookup (C : Cx G p l s m args meth c A y cc nL rt) {dflt : Int} {ps : Array (Int × Int)} {len : Nat} {x : Int32} {off : Int} (tgt : Nat) (d : decode cc pc = .ok (.lookupswitch dflt ps, len)) (hp : (ps.toList.zip (ps.toList.drop 1)).all (fun (a, next) => a.1 < next.1) = true) (ho : Op.lookupswitch.offset ps.toList dflt x.toInt = off) (ht : (pc : Int) + off = (tgt : Int)) (k : AW G p l e R s m args below meth c A nL Q V tgt L st) : AW G p l e R s m args below meth c A nL Q V pc L (.int x :: st) :=
  fun h n u hV H locs ls hz hu hR hA hS hl => lv_lookup C.1 C.2.1 d hp ho ht (k h n u hV H locs ls hz hu hR hA hS hl)
theorem a_iload_0 (C : Cx G p l s m args meth c A y cc nL rt) {x : Int32} {r : List (Option Value)} (d : decode cc pc = .ok (.iload_n 0, 1)) (k : AW G p l e R s m args below meth c A nL Q V (pc + 1) (some (.int x) :: r) (.int x :: st)) : AW G p l e R s m args below meth c A nL Q V pc (some (.int x) :: r) st :=
  fun h n u hV H locs ls hz hu hR hA hS hl => lv_iload_n C.1 C.2.1 d rfl (a_get hl rfl) (k h n u hV H locs ls hz hu hR hA hS hl)
theorem a_aload_0 (C : Cx G p l s m args meth c A y cc nL rt) {x : Nat} {r : List (Option Value)} (d : decode cc pc = .ok (.aload_n 0, 1)) (k : AW G p l e R s m args below meth c A nL Q V (pc + 1) (some (.ref x) :: r) (.ref x :: st)) : AW G p l e R s m args below meth c A nL Q V pc (some (.ref x) :: r) st :=
  fun h n u hV H locs ls hz hu hR hA hS hl => lv_aload_n C.1 C.2.1 d rfl (a_get hl rfl) (k h n u hV H locs ls hz hu hR hA hS hl)
theorem a_iload_1 (C : Cx G p l s m args meth c A y cc nL rt) {x : Int32} {z0 : Option Value} {r : List (Option Value)} (d : decode cc pc = .ok (.iload_n 1, 1)) (k : AW G p l e R s m args below meth c A nL Q V (pc + 1) (z0 :: some (.int x) :: r) (.int x :: st)) : AW G p l e R s m args below meth c A nL Q V pc (z0 :: some (.int x) :: r) st :=
  fun h n u hV H locs ls hz hu hR hA hS hl => lv_iload_n C.1 C.2.1 d rfl (a_get hl rfl) (k h n u hV H locs ls hz hu hR hA hS hl)
theorem a_aload_1 (C : Cx G p l s m args meth c A y cc nL rt) {x : Nat} {z0 : Option Value} {r : List (Option Value)} (d : decode cc pc = .ok (.aload_n 1, 1)) (k : AW G p l e R s m args below meth c A nL Q V (pc + 1) (z0 :: some (.ref x) :: r) (.ref x :: st)) : AW G p l e R s m args below meth c A nL Q V pc (z0 :: some (.ref x) :: r) st :=
  fun h n u hV H locs ls hz hu hR hA hS hl => lv_aload_n C.1 C.2.1 d rfl (a_get hl rfl) (k h n u hV H locs ls hz hu hR hA hS hl)
theorem a_iload_2 (C : Cx G p l s m args meth c A y cc nL rt) {x : Int32} {z0 z1 : Option Value} {r : List (Option Value)} (d : decode cc pc = .ok (.iload_n 2, 1)) (k : AW G p l e R s m args below meth c A nL Q V (pc + 1) (z0 :: z1 :: some (.int x) :: r) (.int x :: st)) : AW G p l e R s m args below meth c A nL Q V pc (z0 :: z1 :: some (.int x) :: r) st :=
  fun h n u hV H locs ls hz hu hR hA hS hl => lv_iload_n C.1 C.2.1 d rfl (a_get hl rfl) (k h n u hV H locs ls hz hu hR hA hS hl)
theorem a_aload_2 (C : Cx G p l s m args meth c A y cc nL rt) {x : Nat} {z0 z1 : Option Value} {r : List (Option Value)} (d : decode cc pc = .ok (.aload_n 2, 1)) (k : AW G p l e R s m args below meth c A nL Q V (pc + 1) (z0 :: z1 :: some (.ref x) :: r) (.ref x :: st)) : AW G p l e R s m args below meth c A nL Q V pc (z0 :: z1 :: some (.ref x) :: r) st :=
  fun h n u hV H locs ls hz hu hR hA hS hl => lv_aload_n C.1 C.2.1 d rfl (a_get hl rfl) (k h n u hV H locs ls hz hu hR hA hS hl)
theorem a_iload_3 (C : Cx G p l s m args meth c A y cc nL rt) {x : Int32} {z0 z1 z2 : Option Value} {r : List (Option Value)} (d : decode cc pc = .ok (.iload_n 3, 1)) (k : AW G p l e R s m args below meth c A nL Q V (pc + 1) (z0 :: z1 :: z2 :: some (.int x) :: r) (.int x :: st)) : AW G p l e R s m args below meth c A nL Q V pc (z0 :: z1 :: z2 :: some (.int x) :: r) st :=
  fun h n u hV H locs ls hz hu hR hA hS hl => lv_iload_n C.1 C.2.1 d rfl (a_get hl rfl) (k h n u hV H locs ls hz hu hR hA hS hl)
theorem a_aload_3 (C : Cx G p l s m args meth c A y cc nL rt) {x : Nat} {z0 z1 z2 : Option Value} {r : List (Option Value)} (d : decode cc pc = .ok (.aload_n 3, 1)) (k : AW G p l e R s m args below meth c A nL Q V (pc + 1) (z0 :: z1 :: z2 :: some (.ref x) :: r) (.ref x :: st)) : AW G p l e R s m args below meth c A nL Q V pc (z0 :: z1 :: z2 :: some (.ref x) :: r) st :=
  fun h n u hV H locs ls hz hu hR hA hS hl => lv_aload_n C.1 C.2.1 d rfl (a_get hl rfl) (k h n u hV H locs ls hz hu hR hA hS hl)
theorem a_iload_4 (C : Cx G p l s m args meth c A y cc nL rt) {x : Int32} {z0 z1 z2 z3 : Option Value} {r : List (Option Value)} (d : decode cc pc = .ok (.iload 4, 2)) (k : AW G p l e R s m args below meth c A nL Q V (pc + 2) (z0 :: z1 :: z2 :: z3 :: some (.int x) :: r) (.int x :: st)) : AW G p l e R s m args below meth c A nL Q V pc (z0 :: z1 :: z2 :: z3 :: some (.int x) :: r) st :=
  fun h n u hV H locs ls hz hu hR hA hS hl => lv_iload C.1 C.2.1 d (a_get hl rfl) (k h n u hV H locs ls hz hu hR hA hS hl)
theorem a_aload_4 (C : Cx G p l s m args meth c A y cc nL rt) {x : Nat} {z0 z1 z2 z3 : Option Value} {r : List (Option Value)} (d : decode cc pc = .ok (.aload 4, 2)) (k : AW G p l e R s m args below meth c A nL Q V (pc + 2) (z0 :: z1 :: z2 :: z3 :: some (.ref x) :: r) (.ref x :: st)) : AW G p l e R s m args below meth c A nL Q V pc (z0 :: z1 :: z2 :: z3 :: some (.ref x) :: r) st :=
  fun h n u hV H locs ls hz hu hR hA hS hl => lv_aload C.1 C.2.1 d (a_get hl rfl) (k h n u hV H locs ls hz hu hR hA hS hl)
theorem a_iload_5 (C : Cx G p l s m args meth c A y cc nL rt) {x : Int32} {z0 z1 z2 z3 z4 : Option Value} {r : List (Option Value)} (d : decode cc pc = .ok (.iload 5, 2)) (k : AW G p l e R s m args below meth c A nL Q V (pc + 2) (z0 :: z1 :: z2 :: z3 :: z4 :: some (.int x) :: r) (.int x :: st)) : AW G p l e R s m args below meth c A nL Q V pc (z0 :: z1 :: z2 :: z3 :: z4 :: some (.int x) :: r) st :=
  fun h n u hV H locs ls hz hu hR hA hS hl => lv_iload C.1 C.2.1 d (a_get hl rfl) (k h n u hV H locs ls hz hu hR hA hS hl)
theorem a_aload_5 (C : Cx G p l s m args meth c A y cc nL rt) {x : Nat} {z0 z1 z2 z3 z4 : Option Value} {r : List (Option Value)} (d : decode cc pc = .ok (.aload 5, 2)) (k : AW G p l e R s m args below meth c A nL Q V (pc + 2) (z0 :: z1 :: z2 :: z3 :: z4 :: some (.ref x) :: r) (.ref x :: st)) : AW G p l e R s m args below meth c A nL Q V pc (z0 :: z1 :: z2 :: z3 :: z4 :: some (.ref x) :: r) st :=
  fun h n u hV H locs ls hz hu hR hA hS hl => lv_aload C.1 C.2.1 d (a_get hl rfl) (k h n u hV H locs ls hz hu hR hA hS hl)
theorem a_iload_6 (C : Cx G p l s m args meth c A y cc nL rt) {x : Int32} {z0 z1 z2 z3 z4 z5 : Option Value} {r : List (Option Value)} (d : decode cc pc = .ok (.iload 6, 2)) (k : AW G p l e R s m args below meth c A nL Q V (pc + 2) (z0 :: z1 :: z2 :: z3 :: z4 :: z5 :: some (.int x) :: r) (.int x :: st)) : AW G p l e R s m args below meth c A nL Q V pc (z0 :: z1 :: z2 :: z3 :: z4 :: z5 :: some (.int x) :: r) st :=
  fun h n u hV H locs ls hz hu hR hA hS hl => lv_iload C.1 C.2.1 d (a_get hl rfl) (k h n u hV H locs ls hz hu hR hA hS hl)
theorem a_aload_6 (C : Cx G p l s m args meth c A y cc nL rt) {x : Nat} {z0 z1 z2 z3 z4 z5 : Option Value} {r : List (Option Value)} (d : decode cc pc = .ok (.aload 6, 2)) (k : AW G p l e R s m args below meth c A nL Q V (pc + 2) (z0 :: z1 :: z2 :: z3 :: z4 :: z5 :: some (.ref x) :: r) (.ref x :: st)) : AW G p l e R s m args below meth c A nL Q V pc (z0 :: z1 :: z2 :: z3 :: z4 :: z5 :: some (.ref x) :: r) st :=
  fun h n u hV H locs ls hz hu hR hA hS hl => lv_aload C.1 C.2.1 d (a_get hl rfl) (k h n u hV H locs ls hz hu hR hA hS hl)
theorem a_iload_7 (C : Cx G p l s m args meth c A y cc nL rt) {x : Int32} {z0 z1 z2 z3 z4 z5 z6 : Option Value} {r : List (Option Value)} (d : decode cc pc = .ok (.iload 7, 2)) (k : AW G p l e R s m args below meth c A nL Q V (pc + 2) (z0 :: z1 :: z2 :: z3 :: z4 :: z5 :: z6 :: some (.int x) :: r) (.int x :: st)) : AW G p l e R s m args below meth c A nL Q V pc (z0 :: z1 :: z2 :: z3 :: z4 :: z5 :: z6 :: some (.int x) :: r) st :=
  fun h n u hV H locs ls hz hu hR hA hS hl => lv_iload C.1 C.2.1 d (a_get hl rfl) (k h n u hV H locs ls hz hu hR hA hS hl)
theorem a_aload_7 (C : Cx G p l s m args meth c A y cc nL rt) {x : Nat} {z0 z1 z2 z3 z4 z5 z6 : Option Value} {r : List (Option Value)} (d : decode cc pc = .ok (.aload 7, 2)) (k : AW G p l e R s m args below meth c A nL Q V (pc + 2) (z0 :: z1 :: z2 :: z3 :: z4 :: z5 :: z6 :: some (.ref x) :: r) (.ref x :: st)) : AW G p l e R s m args below meth c A nL Q V pc (z0 :: z1 :: z2 :: z3 :: z4 :: z5 :: z6 :: some (.ref x) :: r) st :=
  fun h n u hV H locs ls hz hu hR hA hS hl => lv_aload C.1 C.2.1 d (a_get hl rfl) (k h n u hV H locs ls hz hu hR hA hS hl)
theorem a_iload_8 (C : Cx G p l s m args meth c A y cc nL rt) {x : Int32} {z0 z1 z2 z3 z4 z5 z6 z7 : Option Value} {r : List (Option Value)} (d : decode cc pc = .ok (.iload 8, 2)) (k : AW G p l e R s m args below meth c A nL Q V (pc + 2) (z0 :: z1 :: z2 :: z3 :: z4 :: z5 :: z6 :: z7 :: some (.int x) :: r) (.int x :: st)) : AW G p l e R s m args below meth c A nL Q V pc (z0 :: z1 :: z2 :: z3 :: z4 :: z5 :: z6 :: z7 :: some (.int x) :: r) st :=
  fun h n u hV H locs ls hz hu hR hA hS hl => lv_iload C.1 C.2.1 d (a_get hl rfl) (k h n u hV H locs ls hz hu hR hA hS hl)
theorem a_aload_8 (C : Cx G p l s m args meth c A y cc nL rt) {x : Nat} {z0 z1 z2 z3 z4 z5 z6 z7 : Option Value} {r : List (Option Value)} (d : decode cc pc = .ok (.aload 8, 2)) (k : AW G p l e R s m args below meth c A nL Q V (pc + 2) (z0 :: z1 :: z2 :: z3 :: z4 :: z5 :: z6 :: z7 :: some (.ref x) :: r) (.ref x :: st)) : AW G p l e R s m args below meth c A nL Q V pc (z0 :: z1 :: z2 :: z3 :: z4 :: z5 :: z6 :: z7 :: some (.ref x) :: r) st :=
  fun h n u hV H locs ls hz hu hR hA hS hl => lv_aload C.1 C.2.1 d (a_get hl rfl) (k h n u hV H locs ls hz hu hR hA hS hl)
theorem a_iload_9 (C : Cx G p l s m args meth c A y cc nL rt) {x : Int32} {z0 z1 z2 z3 z4 z5 z6 z7 z8 : Option Value} {r : List (Option Value)} (d : decode cc pc = .ok (.iload 9, 2)) (k : AW G p l e R s m args below meth c A nL Q V (pc + 2) (z0 :: z1 :: z2 :: z3 :: z4 :: z5 :: z6 :: z7 :: z8 :: some (.int x) :: r) (.int x :: st)) : AW G p l e R s m args below meth c A nL Q V pc (z0 :: z1 :: z2 :: z3 :: z4 :: z5 :: z6 :: z7 :: z8 :: some (.int x) :: r) st :=
  fun h n u hV H locs ls hz hu hR hA hS hl => lv_iload C.1 C.2.1 d (a_get hl rfl) (k h n u hV H locs ls hz hu hR hA hS hl)
theorem a_aload_9 (C : Cx G p l s m args meth c A y cc nL rt) {x : Nat} {z0 z1 z2 z3 z4 z5 z6 z7 z8 : Option Value} {r : List (Option Value)} (d : decode cc pc = .ok (.aload 9, 2)) (k : AW G p l e R s m args below meth c A nL Q V (pc + 2) (z0 :: z1 :: z2 :: z3 :: z4 :: z5 :: z6 :: z7 :: z8 :: some (.ref x) :: r) (.ref x :: st)) : AW G p l e R s m args below meth c A nL Q V pc (z0 :: z1 :: z2 :: z3 :: z4 :: z5 :: z6 :: z7 :: z8 :: some (.ref x) :: r) st :=
  fun h n u hV H locs ls hz hu hR hA hS hl => lv_aload C.1 C.2.1 d (a_get hl rfl) (k h n u hV H locs ls hz hu hR hA hS hl)
theorem a_iload_10 (C : Cx G p l s m args meth c A y cc nL rt) {x : Int32} {z0 z1 z2 z3 z4 z5 z6 z7 z8 z9 : Option Value} {r : List (Option Value)} (d : decode cc pc = .ok (.iload 10, 2)) (k : AW G p l e R s m args below meth c A nL Q V (pc + 2) (z0 :: z1 :: z2 :: z3 :: z4 :: z5 :: z6 :: z7 :: z8 :: z9 :: some (.int x) :: r) (.int x :: st)) : AW G p l e R s m args below meth c A nL Q V pc (z0 :: z1 :: z2 :: z3 :: z4 :: z5 :: z6 :: z7 :: z8 :: z9 :: some (.int x) :: r) st :=
  fun h n u hV H locs ls hz hu hR hA hS hl => lv_iload C.1 C.2.1 d (a_get hl rfl) (k h n u hV H locs ls hz hu hR hA hS hl)
theorem a_aload_10 (C : Cx G p l s m args meth c A y cc nL rt) {x : Nat} {z0 z1 z2 z3 z4 z5 z6 z7 z8 z9 : Option Value} {r : List (Option Value)} (d : decode cc pc = .ok (.aload 10, 2)) (k : AW G p l e R s m args below meth c A nL Q V (pc + 2) (z0 :: z1 :: z2 :: z3 :: z4 :: z5 :: z6 :: z7 :: z8 :: z9 :: some (.ref x) :: r) (.ref x :: st)) : AW G p l e R s m args below meth c A nL Q V pc (z0 :: z1 :: z2 :: z3 :: z4 :: z5 :: z6 :: z7 :: z8 :: z9 :: some (.ref x) :: r) st :=
  fun h n u hV H locs ls hz hu hR hA hS hl => lv_aload C.1 C.2.1 d (a_get hl rfl) (k h n u hV H locs ls hz hu hR hA hS hl)
theorem a_iload_11 (C : Cx G p l s m args meth c A y cc nL rt) {x : Int32} {z0 z1 z2 z3 z4 z5 z6 z7 z8 z9 z10 : Option Value} {r : List (Option Value)} (d : decode cc pc = .ok (.iload 11, 2)) (k : AW G p l e R s m args below meth c A nL Q V (pc + 2) (z0 :: z1 :: z2 :: z3 :: z4 :: z5 :: z6 :: z7 :: z8 :: z9 :: z10 :: some (.int x) :: r) (.int x :: st)) : AW G p l e R s m args below meth c A nL Q V pc (z0 :: z1 :: z2 :: z3 :: z4 :: z5 :: z6 :: z7 :: z8 :: z9 :: z10 :: some (.int x) :: r) st :=
  fun h n u hV H locs ls hz hu hR hA hS hl => lv_iload C.1 C.2.1 d (a_get hl rfl) (k h n u hV H locs ls hz hu hR hA hS hl)
theorem a_aload_11 (C : Cx G p l s m args meth c A y cc nL rt) {x : Nat} {z0 z1 z2 z3 z4 z5 z6 z7 z8 z9 z10 : Option Value} {r : List (Option Value)} (d : decode cc pc = .ok (.aload 11, 2)) (k : AW G p l e R s m args below meth c A nL Q V (pc + 2) (z0 :: z1 :: z2 :: z3 :: z4 :: z5 :: z6 :: z7 :: z8 :: z9 :: z10 :: some (.ref x) :: r) (.ref x :: st)) : AW G p l e R s m args below meth c A nL Q V pc (z0 :: z1 :: z2 :: z3 :: z4 :: z5 :: z6 :: z7 :: z8 :: z9 :: z10 :: some (.ref x) :: r) st :=
  fun h n u hV H locs ls hz hu hR hA hS hl => lv_aload C.1 C.2.1 d (a_get hl rfl) (k h n u hV H locs ls hz hu hR hA hS hl)
theorem a_iload_12 (C : Cx G p l s m args meth c A y cc nL rt) {x : Int32} {z0 z1 z2 z3 z4 z5 z6 z7 z8 z9 z10 z11 : Option Value} {r : List (Option Value)} (d : decode cc pc = .ok (.iload 12, 2)) (k : AW G p l e R s m args below meth c A nL Q V (pc + 2) (z0 :: z1 :: z2 :: z3 :: z4 :: z5 :: z6 :: z7 :: z8 :: z9 :: z10 :: z11 :: some (.int x) :: r) (.int x :: st)) : AW G p l e R s m args below meth c A nL Q V pc (z0 :: z1 :: z2 :: z3 :: z4 :: z5 :: z6 :: z7 :: z8 :: z9 :: z10 :: z11 :: some (.int x) :: r) st :=
  fun h n u hV H locs ls hz hu hR hA hS hl => lv_iload C.1 C.2.1 d (a_get hl rfl) (k h n u hV H locs ls hz hu hR hA hS hl)
theorem a_aload_12 (C : Cx G p l s m args meth c A y cc nL rt) {x : Nat} {z0 z1 z2 z3 z4 z5 z6 z7 z8 z9 z10 z11 : Option Value} {r : List (Option Value)} (d : decode cc pc = .ok (.aload 12, 2)) (k : AW G p l e R s m args below meth c A nL Q V (pc + 2) (z0 :: z1 :: z2 :: z3 :: z4 :: z5 :: z6 :: z7 :: z8 :: z9 :: z10 :: z11 :: some (.ref x) :: r) (.ref x :: st)) : AW G p l e R s m args below meth c A nL Q V pc (z0 :: z1 :: z2 :: z3 :: z4 :: z5 :: z6 :: z7 :: z8 :: z9 :: z10 :: z11 :: some (.ref x) :: r) st :=
  fun h n u hV H locs ls hz hu hR hA hS hl => lv_aload C.1 C.2.1 d (a_get hl rfl) (k h n u hV H locs ls hz hu hR hA hS hl)
theorem a_iload_13 (C : Cx G p l s m args meth c A y cc nL rt) {x : Int32} {z0 z1 z2 z3 z4 z5 z6 z7 z8 z9 z10 z11 z12 : Option Value} {r : List (Option Value)} (d : decode cc pc = .ok (.iload 13, 2)) (k : AW G p l e R s m args below meth c A nL Q V (pc + 2) (z0 :: z1 :: z2 :: z3 :: z4 :: z5 :: z6 :: z7 :: z8 :: z9 :: z10 :: z11 :: z12 :: some (.int x) :: r) (.int x :: st)) : AW G p l e R s m args below meth c A nL Q V pc (z0 :: z1 :: z2 :: z3 :: z4 :: z5 :: z6 :: z7 :: z8 :: z9 :: z10 :: z11 :: z12 :: some (.int x) :: r) st :=
  fun h n u hV H locs ls hz hu hR hA hS hl => lv_iload C.1 C.2.1 d (a_get hl rfl) (k h n u hV H locs ls hz hu hR hA hS hl)
theorem a_aload_13 (C : Cx G p l s m args meth c A y cc nL rt) {x : Nat} {z0 z1 z2 z3 z4 z5 z6 z7 z8 z9 z10 z11 z12 : Option Value} {r : List (Option Value)} (d : decode cc pc = .ok (.aload 13, 2)) (k : AW G p l e R s m args below meth c A nL Q V (pc + 2) (z0 :: z1 :: z2 :: z3 :: z4 :: z5 :: z6 :: z7 :: z8 :: z9 :: z10 :: z11 :: z12 :: some (.ref x) :: r) (.ref x :: st)) : AW G p l e R s m args below meth c A nL Q V pc (z0 :: z1 :: z2 :: z3 :: z4 :: z5 :: z6 :: z7 :: z8 :: z9 :: z10 :: z11 :: z12 :: some (.ref x) :: r) st :=
  fun h n u hV H locs ls hz hu hR hA hS hl => lv_aload C.1 C.2.1 d (a_get hl rfl) (k h n u hV H locs ls hz hu hR hA hS hl)
theorem a_aloadq_0 (C : Cx G p l s m args meth c A y cc nL rt) {b : Option Nat} {r : List (Option Value)} (d : decode cc pc = .ok (.aload_n 0, 1)) (k : AW G p l e R s m args below meth c A nL Q V (pc + 1) (some (va_rf b) :: r) (va_rf b :: st)) : AW G p l e R s m args below meth c A nL Q V pc (some (va_rf b) :: r) st := by
  intro h n u hV H locs ls hz hu hR hA hS hl
  cases b with
  | none => exact lv_aload_nN C.1 C.2.1 d rfl (a_get hl rfl) (k h n u hV H locs ls hz hu hR hA hS hl)
  | some x => exact lv_aload_n C.1 C.2.1 d rfl (a_get hl rfl) (k h n u hV H locs ls hz hu hR hA hS hl)
theorem a_aloadq_1 (C : Cx G p l s m args meth c A y cc nL rt) {b : Option Nat} {z0 : Option Value} {r : List (Option Value)} (d : decode cc pc = .ok (.aload_n 1, 1)) (k : AW G p l e R s m args below meth c A nL Q V (pc + 1) (z0 :: some (va_rf b) :: r) (va_rf b :: st)) : AW G p l e R s m args below meth c A nL Q V pc (z0 :: some (va_rf b) :: r) st := by
  intro h n u hV H locs ls hz hu hR hA hS hl
  cases b with
  | none => exact lv_aload_nN C.1 C.2.1 d rfl (a_get hl rfl) (k h n u hV H locs ls hz hu hR hA hS hl)
  | some x => exact lv_aload_n C.1 C.2.1 d rfl (a_get hl rfl) (k h n u hV H locs ls hz hu hR hA hS hl)
theorem a_aloadq_2 (C : Cx G p l s m args meth c A y cc nL rt) {b : Option Nat} {z0 z1 : Option Value} {r : List (Option Value)} (d : decode cc pc = .ok (.aload_n 2, 1)) (k : AW G p l e R s m args below meth c A nL Q V (pc + 1) (z0 :: z1 :: some (va_rf b) :: r) (va_rf b :: st)) : AW G p l e R s m args below meth c A nL Q V pc (z0 :: z1 :: some (va_rf b) :: r) st := by
  intro h n u hV H locs ls hz hu hR hA hS hl
  cases b with
  | none => exact lv_aload_nN C.1 C.2.1 d rfl (a_get hl rfl) (k h n u hV H locs ls hz hu hR hA hS hl)
  | some x => exact lv_aload_n C.1 C.2.1 d rfl (a_get hl rfl) (k h n u hV H locs ls hz hu hR hA hS hl)
theorem a_aloadq_3 (C : Cx G p l s m args meth c A y cc nL rt) {b : Option Nat} {z0 z1 z2 : Option Value} {r : List (Option Value)} (d : decode cc pc = .ok (.aload_n 3, 1)) (k : AW G p l e R s m args below meth c A nL Q V (pc + 1) (z0 :: z1 :: z2 :: some (va_rf b) :: r) (va_rf b :: st)) : AW G p l e R s m args below meth c A nL Q V pc (z0 :: z1 :: z2 :: some (va_rf b) :: r) st := by
  intro h n u hV H locs ls hz hu hR hA hS hl
  cases b with
  | none => exact lv_aload_nN C.1 C.2.1 d rfl (a_get hl rfl) (k h n u hV H locs ls hz hu hR hA hS hl)
  | some x => exact lv_aload_n C.1 C.2.1 d rfl (a_get hl rfl) (k h n u hV H locs ls hz hu hR hA hS hl)
theorem a_aloadq_4 (C : Cx G p l s m args meth c A y cc nL rt) {b : Option Nat} {z0 z1 z2 z3 : Option Value} {r : List (Option Value)} (d : decode cc pc = .ok (.aload 4, 2)) (k : AW G p l e R s m args below meth c A nL Q V (pc + 2) (z0 :: z1 :: z2 :: z3 :: some (va_rf b) :: r) (va_rf b :: st)) : AW G p l e R s m args below meth c A nL Q V pc (z0 :: z1 :: z2 :: z3 :: some (va_rf b) :: r) st := by
  intro h n u hV H locs ls hz hu hR hA hS hl
  cases b with
  | none => exact lv_aloadN C.1 C.2.1 d (a_get hl rfl) (k h n u hV H locs ls hz hu hR hA hS hl)
  | some x => exact lv_aload C.1 C.2.1 d (a_get hl rfl) (k h n u hV H locs ls hz hu hR hA hS hl)
theorem a_aloadq_5 (C : Cx G p l s m args meth c A y cc nL rt) {b : Option Nat} {z0 z1 z2 z3 z4 : Option Value} {r : List (Option Value)} (d : decode cc pc = .ok (.aload 5, 2)) (k : AW G p l e R s m args below meth c A nL Q V (pc + 2) (z0 :: z1 :: z2 :: z3 :: z4 :: some (va_rf b) :: r) (va_rf b :: st)) : AW G p l e R s m args below meth c A nL Q V pc (z0 :: z1 :: z2 :: z3 :: z4 :: some (va_rf b) :: r) st := by
  intro h n u hV H locs ls hz hu hR hA hS hl
  cases b with
  | none => exact lv_aloadN C.1 C.2.1 d (a_get hl rfl) (k h n u hV H locs ls hz hu hR hA hS hl)
  | some x => exact lv_aload C.1 C.2.1 d (a_get hl rfl) (k h n u hV H locs ls hz hu hR hA hS hl)
theorem a_aloadq_6 (C : Cx G p l s m args meth c A y cc nL rt) {b : Option Nat} {z0 z1 z2 z3 z4 z5 : Option Value} {r : List (Option Value)} (d : decode cc pc = .ok (.aload 6, 2)) (k : AW G p l e R s m args below meth c A nL Q V (pc + 2) (z0 :: z1 :: z2 :: z3 :: z4 :: z5 :: some (va_rf b) :: r) (va_rf b :: st)) : AW G p l e R s m args below meth c A nL Q V pc (z0 :: z1 :: z2 :: z3 :: z4 :: z5 :: some (va_rf b) :: r) st := by
  intro h n u hV H locs ls hz hu hR hA hS hl
  cases b with
  | none => exact lv_aloadN C.1 C.2.1 d (a_get hl rfl) (k h n u hV H locs ls hz hu hR hA hS hl)
  | some x => exact lv_aload C.1 C.2.1 d (a_get hl rfl) (k h n u hV H locs ls hz hu hR hA hS hl)
theorem a_aloadq_7 (C : Cx G p l s m args meth c A y cc nL rt) {b : Option Nat} {z0 z1 z2 z3 z4 z5 z6 : Option Value} {r : List (Option Value)} (d : decode cc pc = .ok (.aload 7, 2)) (k : AW G p l e R s m args below meth c A nL Q V (pc + 2) (z0 :: z1 :: z2 :: z3 :: z4 :: z5 :: z6 :: some (va_rf b) :: r) (va_rf b :: st)) : AW G p l e R s m args below meth c A nL Q V pc (z0 :: z1 :: z2 :: z3 :: z4 :: z5 :: z6 :: some (va_rf b) :: r) st := by
  intro h n u hV H locs ls hz hu hR hA hS hl
  cases b with
  | none => exact lv_aloadN C.1 C.2.1 d (a_get hl rfl) (k h n u hV H locs ls hz hu hR hA hS hl)
  | some x => exact lv_aload C.1 C.2.1 d (a_get hl rfl) (k h n u hV H locs ls hz hu hR hA hS hl)
theorem a_aloadq_8 (C : Cx G p l s m args meth c A y cc nL rt) {b : Option Nat} {z0 z1 z2 z3 z4 z5 z6 z7 : Option Value} {r : List (Option Value)} (d : decode cc pc = .ok (.aload 8, 2)) (k : AW G p l e R s m args below meth c A nL Q V (pc + 2) (z0 :: z1 :: z2 :: z3 :: z4 :: z5 :: z6 :: z7 :: some (va_rf b) :: r) (va_rf b :: st)) : AW G p l e R s m args below meth c A nL Q V pc (z0 :: z1 :: z2 :: z3 :: z4 :: z5 :: z6 :: z7 :: some (va_rf b) :: r) st := by
  intro h n u hV H locs ls hz hu hR hA hS hl
  cases b with
  | none => exact lv_aloadN C.1 C.2.1 d (a_get hl rfl) (k h n u hV H locs ls hz hu hR hA hS hl)
  | some x => exact lv_aload C.1 C.2.1 d (a_get hl rfl) (k h n u hV H locs ls hz hu hR hA hS hl)
theorem a_aloadq_9 (C : Cx G p l s m args meth c A y cc nL rt) {b : Option Nat} {z0 z1 z2 z3 z4 z5 z6 z7 z8 : Option Value} {r : List (Option Value)} (d : decode cc pc = .ok (.aload 9, 2)) (k : AW G p l e R s m args below meth c A nL Q V (pc + 2) (z0 :: z1 :: z2 :: z3 :: z4 :: z5 :: z6 :: z7 :: z8 :: some (va_rf b) :: r) (va_rf b :: st)) : AW G p l e R s m args below meth c A nL Q V pc (z0 :: z1 :: z2 :: z3 :: z4 :: z5 :: z6 :: z7 :: z8 :: some (va_rf b) :: r) st := by
  intro h n u hV H locs ls hz hu hR hA hS hl
  cases b with
  | none => exact lv_aloadN C.1 C.2.1 d (a_get hl rfl) (k h n u hV H locs ls hz hu hR hA hS hl)
  | some x => exact lv_aload C.1 C.2.1 d (a_get hl rfl) (k h n u hV H locs ls hz hu hR hA hS hl)
theorem a_aloadq_10 (C : Cx G p l s m args meth c A y cc nL rt) {b : Option Nat} {z0 z1 z2 z3 z4 z5 z6 z7 z8 z9 : Option Value} {r : List (Option Value)} (d : decode cc pc = .ok (.aload 10, 2)) (k : AW G p l e R s m args below meth c A nL Q V (pc + 2) (z0 :: z1 :: z2 :: z3 :: z4 :: z5 :: z6 :: z7 :: z8 :: z9 :: some (va_rf b) :: r) (va_rf b :: st)) : AW G p l e R s m args below meth c A nL Q V pc (z0 :: z1 :: z2 :: z3 :: z4 :: z5 :: z6 :: z7 :: z8 :: z9 :: some (va_rf b) :: r) st := by
  intro h n u hV H locs ls hz hu hR hA hS hl
  cases b with
  | none => exact lv_aloadN C.1 C.2.1 d (a_get hl rfl) (k h n u hV H locs ls hz hu hR hA hS hl)
  | some x => exact lv_aload C.1 C.2.1 d (a_get hl rfl) (k h n u hV H locs ls hz hu hR hA hS hl)
theorem a_aloadq_11 (C : Cx G p l s m args meth c A y cc nL rt) {b : Option Nat} {z0 z1 z2 z3 z4 z5 z6 z7 z8 z9 z10 : Option Value} {r : List (Option Value)} (d : decode cc pc = .ok (.aload 11, 2)) (k : AW G p l e R s m args below meth c A nL Q V (pc + 2) (z0 :: z1 :: z2 :: z3 :: z4 :: z5 :: z6 :: z7 :: z8 :: z9 :: z10 :: some (va_rf b) :: r) (va_rf b :: st)) : AW G p l e R s m args below meth c A nL Q V pc (z0 :: z1 :: z2 :: z3 :: z4 :: z5 :: z6 :: z7 :: z8 :: z9 :: z10 :: some (va_rf b) :: r) st := by
  intro h n u hV H locs ls hz hu hR hA hS hl
  cases b with
  | none => exact lv_aloadN C.1 C.2.1 d (a_get hl rfl) (k h n u hV H locs ls hz hu hR hA hS hl)
  | some x => exact lv_aload C.1 C.2.1 d (a_get hl rfl) (k h n u hV H locs ls hz hu hR hA hS hl)
theorem a_aloadq_12 (C : Cx G p l s m args meth c A y cc nL rt) {b : Option Nat} {z0 z1 z2 z3 z4 z5 z6 z7 z8 z9 z10 z11 : Option Value} {r : List (Option Value)} (d : decode cc pc = .ok (.aload 12, 2)) (k : AW G p l e R s m args below meth c A nL Q V (pc + 2) (z0 :: z1 :: z2 :: z3 :: z4 :: z5 :: z6 :: z7 :: z8 :: z9 :: z10 :: z11 :: some (va_rf b) :: r) (va_rf b :: st)) : AW G p l e R s m args below meth c A nL Q V pc (z0 :: z1 :: z2 :: z3 :: z4 :: z5 :: z6 :: z7 :: z8 :: z9 :: z10 :: z11 :: some (va_rf b) :: r) st := by
  intro h n u hV H locs ls hz hu hR hA hS hl
  cases b with
  | none => exact lv_aloadN C.1 C.2.1 d (a_get hl rfl) (k h n u hV H locs ls hz hu hR hA hS hl)
  | some x => exact lv_aload C.1 C.2.1 d (a_get hl rfl) (k h n u hV H locs ls hz hu hR hA hS hl)
theorem a_aloadq_13 (C : Cx G p l s m args meth c A y cc nL rt) {b : Option Nat} {z0 z1 z2 z3 z4 z5 z6 z7 z8 z9 z10 z11 z12 : Option Value} {r : List (Option Value)} (d : decode cc pc = .ok (.aload 13, 2)) (k : AW G p l e R s m args below meth c A nL Q V (pc + 2) (z0 :: z1 :: z2 :: z3 :: z4 :: z5 :: z6 :: z7 :: z8 :: z9 :: z10 :: z11 :: z12 :: some (va_rf b) :: r) (va_rf b :: st)) : AW G p l e R s m args below meth c A nL Q V pc (z0 :: z1 :: z2 :: z3 :: z4 :: z5 :: z6 :: z7 :: z8 :: z9 :: z10 :: z11 :: z12 :: some (va_rf b) :: r) st := by
  intro h n u hV H locs ls hz hu hR hA hS hl
  cases b with
  | none => exact lv_aloadN C.1 C.2.1 d (a_get hl rfl) (k h n u hV H locs ls hz hu hR hA hS hl)
  | some x => exact lv_aload C.1 C.2.1 d (a_get hl rfl) (k h n u hV H locs ls hz hu hR hA hS hl)
theorem a_dload_4 (C : Cx G p l s m args meth c A y cc nL rt) {x : UInt64} {z0 z1 z2 z3 : Option Value} {r : List (Option Value)} (d : decode cc pc = .ok (.dload 4, 2)) (k : AW G p l e R s m args below meth c A nL Q V (pc + 2) (z0 :: z1 :: z2 :: z3 :: some (.double x) :: r) (.double x :: st)) : AW G p l e R s m args below meth c A nL Q V pc (z0 :: z1 :: z2 :: z3 :: some (.double x) :: r) st :=
  fun h n u hV H locs ls hz hu hR hA hS hl => lv_dload C.1 C.2.1 d (a_get hl rfl) (k h n u hV H locs ls hz hu hR hA hS hl)
theorem a_lload_4 (C : Cx G p l s m args meth c A y cc nL rt) {x : Int64} {z0 z1 z2 z3 : Option Value} {r : List (Option Value)} (d : decode cc pc = .ok (.lload 4, 2)) (k : AW G p l e R s m args below meth c A nL Q V (pc + 2) (z0 :: z1 :: z2 :: z3 :: some (.long x) :: r) (.long x :: st)) : AW G p l e R s m args below meth c A nL Q V pc (z0 :: z1 :: z2 :: z3 :: some (.long x) :: r) st :=
  fun h n u hV H locs ls hz hu hR hA hS hl => lv_lload C.1 C.2.1 d (a_get hl rfl) (k h n u hV H locs ls hz hu hR hA hS hl)
theorem a_dload_5 (C : Cx G p l s m args meth c A y cc nL rt) {x : UInt64} {z0 z1 z2 z3 z4 : Option Value} {r : List (Option Value)} (d : decode cc pc = .ok (.dload 5, 2)) (k : AW G p l e R s m args below meth c A nL Q V (pc + 2) (z0 :: z1 :: z2 :: z3 :: z4 :: some (.double x) :: r) (.double x :: st)) : AW G p l e R s m args below meth c A nL Q V pc (z0 :: z1 :: z2 :: z3 :: z4 :: some (.double x) :: r) st :=
  fun h n u hV H locs ls hz hu hR hA hS hl => lv_dload C.1 C.2.1 d (a_get hl rfl) (k h n u hV H locs ls hz hu hR hA hS hl)
theorem a_lload_5 (C : Cx G p l s m args meth c A y cc nL rt) {x : Int64} {z0 z1 z2 z3 z4 : Option Value} {r : List (Option Value)} (d : decode cc pc = .ok (.lload 5, 2)) (k : AW G p l e R s m args below meth c A nL Q V (pc + 2) (z0 :: z1 :: z2 :: z3 :: z4 :: some (.long x) :: r) (.long x :: st)) : AW G p l e R s m args below meth c A nL Q V pc (z0 :: z1 :: z2 :: z3 :: z4 :: some (.long x) :: r) st :=
  fun h n u hV H locs ls hz hu hR hA hS hl => lv_lload C.1 C.2.1 d (a_get hl rfl) (k h n u hV H locs ls hz hu hR hA hS hl)
theorem a_dload_6 (C : Cx G p l s m args meth c A y cc nL rt) {x : UInt64} {z0 z1 z2 z3 z4 z5 : Option Value} {r : List (Option Value)} (d : decode cc pc = .ok (.dload 6, 2)) (k : AW G p l e R s m args below meth c A nL Q V (pc + 2) (z0 :: z1 :: z2 :: z3 :: z4 :: z5 :: some (.double x) :: r) (.double x :: st)) : AW G p l e R s m args below meth c A nL Q V pc (z0 :: z1 :: z2 :: z3 :: z4 :: z5 :: some (.double x) :: r) st :=
  fun h n u hV H locs ls hz hu hR hA hS hl => lv_dload C.1 C.2.1 d (a_get hl rfl) (k h n u hV H locs ls hz hu hR hA hS hl)
theorem a_lload_6 (C : Cx G p l s m args meth c A y cc nL rt) {x : Int64} {z0 z1 z2 z3 z4 z5 : Option Value} {r : List (Option Value)} (d : decode cc pc = .ok (.lload 6, 2)) (k : AW G p l e R s m args below meth c A nL Q V (pc + 2) (z0 :: z1 :: z2 :: z3 :: z4 :: z5 :: some (.long x) :: r) (.long x :: st)) : AW G p l e R s m args below meth c A nL Q V pc (z0 :: z1 :: z2 :: z3 :: z4 :: z5 :: some (.long x) :: r) st :=
  fun h n u hV H locs ls hz hu hR hA hS hl => lv_lload C.1 C.2.1 d (a_get hl rfl) (k h n u hV H locs ls hz hu hR hA hS hl)
theorem a_dload_7 (C : Cx G p l s m args meth c A y cc nL rt) {x : UInt64} {z0 z1 z2 z3 z4 z5 z6 : Option Value} {r : List (Option Value)} (d : decode cc pc = .ok (.dload 7, 2)) (k : AW G p l e R s m args below meth c A nL Q V (pc + 2) (z0 :: z1 :: z2 :: z3 :: z4 :: z5 :: z6 :: some (.double x) :: r) (.double x :: st)) : AW G p l e R s m args below meth c A nL Q V pc (z0 :: z1 :: z2 :: z3 :: z4 :: z5 :: z6 :: some (.double x) :: r) st :=
  fun h n u hV H locs ls hz hu hR hA hS hl => lv_dload C.1 C.2.1 d (a_get hl rfl) (k h n u hV H locs ls hz hu hR hA hS hl)
theorem a_lload_7 (C : Cx G p l s m args meth c A y cc nL rt) {x : Int64} {z0 z1 z2 z3 z4 z5 z6 : Option Value} {r : List (Option Value)} (d : decode cc pc = .ok (.lload 7, 2)) (k : AW G p l e R s m args below meth c A nL Q V (pc + 2) (z0 :: z1 :: z2 :: z3 :: z4 :: z5 :: z6 :: some (.long x) :: r) (.long x :: st)) : AW G p l e R s m args below meth c A nL Q V pc (z0 :: z1 :: z2 :: z3 :: z4 :: z5 :: z6 :: some (.long x) :: r) st :=
  fun h n u hV H locs ls hz hu hR hA hS hl => lv_lload C.1 C.2.1 d (a_get hl rfl) (k h n u hV H locs ls hz hu hR hA hS hl)
theorem a_dload_8 (C : Cx G p l s m args meth c A y cc nL rt) {x : UInt64} {z0 z1 z2 z3 z4 z5 z6 z7 : Option Value} {r : List (Option Value)} (d : decode cc pc = .ok (.dload 8, 2)) (k : AW G p l e R s m args below meth c A nL Q V (pc + 2) (z0 :: z1 :: z2 :: z3 :: z4 :: z5 :: z6 :: z7 :: some (.double x) :: r) (.double x :: st)) : AW G p l e R s m args below meth c A nL Q V pc (z0 :: z1 :: z2 :: z3 :: z4 :: z5 :: z6 :: z7 :: some (.double x) :: r) st :=
  fun h n u hV H locs ls hz hu hR hA hS hl => lv_dload C.1 C.2.1 d (a_get hl rfl) (k h n u hV H locs ls hz hu hR hA hS hl)
theorem a_lload_8 (C : Cx G p l s m args meth c A y cc nL rt) {x : Int64} {z0 z1 z2 z3 z4 z5 z6 z7 : Option Value} {r : List (Option Value)} (d : decode cc pc = .ok (.lload 8, 2)) (k : AW G p l e R s m args below meth c A nL Q V (pc + 2) (z0 :: z1 :: z2 :: z3 :: z4 :: z5 :: z6 :: z7 :: some (.long x) :: r) (.long x :: st)) : AW G p l e R s m args below meth c A nL Q V pc (z0 :: z1 :: z2 :: z3 :: z4 :: z5 :: z6 :: z7 :: some (.long x) :: r) st :=
  fun h n u hV H locs ls hz hu hR hA hS hl => lv_lload C.1 C.2.1 d (a_get hl rfl) (k h n u hV H locs ls hz hu hR hA hS hl)
theorem a_dload_9 (C : Cx G p l s m args meth c A y cc nL rt) {x : UInt64} {z0 z1 z2 z3 z4 z5 z6 z7 z8 : Option Value} {r : List (Option Value)} (d : decode cc pc = .ok (.dload 9, 2)) (k : AW G p l e R s m args below meth c A nL Q V (pc + 2) (z0 :: z1 :: z2 :: z3 :: z4 :: z5 :: z6 :: z7 :: z8 :: some (.double x) :: r) (.double x :: st)) : AW G p l e R s m args below meth c A nL Q V pc (z0 :: z1 :: z2 :: z3 :: z4 :: z5 :: z6 :: z7 :: z8 :: some (.double x) :: r) st :=
  fun h n u hV H locs ls hz hu hR hA hS hl => lv_dload C.1 C.2.1 d (a_get hl rfl) (k h n u hV H locs ls hz hu hR hA hS hl)
theorem a_lload_9 (C : Cx G p l s m args meth c A y cc nL rt) {x : Int64} {z0 z1 z2 z3 z4 z5 z6 z7 z8 : Option Value} {r : List (Option Value)} (d : decode cc pc = .ok (.lload 9, 2)) (k : AW G p l e R s m args below meth c A nL Q V (pc + 2) (z0 :: z1 :: z2 :: z3 :: z4 :: z5 :: z6 :: z7 :: z8 :: some (.long x) :: r) (.long x :: st)) : AW G p l e R s m args below meth c A nL Q V pc (z0 :: z1 :: z2 :: z3 :: z4 :: z5 :: z6 :: z7 :: z8 :: some (.long x) :: r) st :=
  fun h n u hV H locs ls hz hu hR hA hS hl => lv_lload C.1 C.2.1 d (a_get hl rfl) (k h n u hV H locs ls hz hu hR hA hS hl)
theorem a_dload_10 (C : Cx G p l s m args meth c A y cc nL rt) {x : UInt64} {z0 z1 z2 z3 z4 z5 z6 z7 z8 z9 : Option Value} {r : List (Option Value)} (d : decode cc pc = .ok (.dload 10, 2)) (k : AW G p l e R s m args below meth c A nL Q V (pc + 2) (z0 :: z1 :: z2 :: z3 :: z4 :: z5 :: z6 :: z7 :: z8 :: z9 :: some (.double x) :: r) (.double x :: st)) : AW G p l e R s m args below meth c A nL Q V pc (z0 :: z1 :: z2 :: z3 :: z4 :: z5 :: z6 :: z7 :: z8 :: z9 :: some (.double x) :: r) st :=
  fun h n u hV H locs ls hz hu hR hA hS hl => lv_dload C.1 C.2.1 d (a_get hl rfl) (k h n u hV H locs ls hz hu hR hA hS hl)
theorem a_lload_10 (C : Cx G p l s m args meth c A y cc nL rt) {x : Int64} {z0 z1 z2 z3 z4 z5 z6 z7 z8 z9 : Option Value} {r : List (Option Value)} (d : decode cc pc = .ok (.lload 10, 2)) (k : AW G p l e R s m args below meth c A nL Q V (pc + 2) (z0 :: z1 :: z2 :: z3 :: z4 :: z5 :: z6 :: z7 :: z8 :: z9 :: some (.long x) :: r) (.long x :: st)) : AW G p l e R s m args below meth c A nL Q V pc (z0 :: z1 :: z2 :: z3 :: z4 :: z5 :: z6 :: z7 :: z8 :: z9 :: some (.long x) :: r) st :=
  fun h n u hV H locs ls hz hu hR hA hS hl => lv_lload C.1 C.2.1 d (a_get hl rfl) (k h n u hV H locs ls hz hu hR hA hS hl)
theorem a_dload_11 (C : Cx G p l s m args meth c A y cc nL rt) {x : UInt64} {z0 z1 z2 z3 z4 z5 z6 z7 z8 z9 z10 : Option Value} {r : List (Option Value)} (d : decode cc pc = .ok (.dload 11, 2)) (k : AW G p l e R s m args below meth c A nL Q V (pc + 2) (z0 :: z1 :: z2 :: z3 :: z4 :: z5 :: z6 :: z7 :: z8 :: z9 :: z10 :: some (.double x) :: r) (.double x :: st)) : AW G p l e R s m args below meth c A nL Q V pc (z0 :: z1 :: z2 :: z3 :: z4 :: z5 :: z6 :: z7 :: z8 :: z9 :: z10 :: some (.double x) :: r) st :=
  fun h n u hV H locs ls hz hu hR hA hS hl => lv_dload C.1 C.2.1 d (a_get hl rfl) (k h n u hV H locs ls hz hu hR hA hS hl)
theorem a_lload_11 (C : Cx G p l s m args meth c A y cc nL rt) {x : Int64} {z0 z1 z2 z3 z4 z5 z6 z7 z8 z9 z10 : Option Value} {r : List (Option Value)} (d : decode cc pc = .ok (.lload 11, 2)) (k : AW G p l e R s m args below meth c A nL Q V (pc + 2) (z0 :: z1 :: z2 :: z3 :: z4 :: z5 :: z6 :: z7 :: z8 :: z9 :: z10 :: some (.long x) :: r) (.long x :: st)) : AW G p l e R s m args below meth c A nL Q V pc (z0 :: z1 :: z2 :: z3 :: z4 :: z5 :: z6 :: z7 :: z8 :: z9 :: z10 :: some (.long x) :: r) st :=
  fun h n u hV H locs ls hz hu hR hA hS hl => lv_lload C.1 C.2.1 d (a_get hl rfl) (k h n u hV H locs ls hz hu hR hA hS hl)
theorem a_dload_12 (C : Cx G p l s m args meth c A y cc nL rt) {x : UInt64} {z0 z1 z2 z3 z4 z5 z6 z7 z8 z9 z10 z11 : Option Value} {r : List (Option Value)} (d : decode cc pc = .ok (.dload 12, 2)) (k : AW G p l e R s m args below meth c A nL Q V (pc + 2) (z0 :: z1 :: z2 :: z3 :: z4 :: z5 :: z6 :: z7 :: z8 :: z9 :: z10 :: z11 :: some (.double x) :: r) (.double x :: st)) : AW G p l e R s m args below meth c A nL Q V pc (z0 :: z1 :: z2 :: z3 :: z4 :: z5 :: z6 :: z7 :: z8 :: z9 :: z10 :: z11 :: some (.double x) :: r) st :=
  fun h n u hV H locs ls hz hu hR hA hS hl => lv_dload C.1 C.2.1 d (a_get hl rfl) (k h n u hV H locs ls hz hu hR hA hS hl)
theorem a_lload_12 (C : Cx G p l s m args meth c A y cc nL rt) {x : Int64} {z0 z1 z2 z3 z4 z5 z6 z7 z8 z9 z10 z11 : Option Value} {r : List (Option Value)} (d : decode cc pc = .ok (.lload 12, 2)) (k : AW G p l e R s m args below meth c A nL Q V (pc + 2) (z0 :: z1 :: z2 :: z3 :: z4 :: z5 :: z6 :: z7 :: z8 :: z9 :: z10 :: z11 :: some (.long x) :: r) (.long x :: st)) : AW G p l e R s m args below meth c A nL Q V pc (z0 :: z1 :: z2 :: z3 :: z4 :: z5 :: z6 :: z7 :: z8 :: z9 :: z10 :: z11 :: some (.long x) :: r) st :=
  fun h n u hV H locs ls hz hu hR hA hS hl => lv_lload C.1 C.2.1 d (a_get hl rfl) (k h n u hV H locs ls hz hu hR hA hS hl)
theorem a_dload_13 (C : Cx G p l s m args meth c A y cc nL rt) {x : UInt64} {z0 z1 z2 z3 z4 z5 z6 z7 z8 z9 z10 z11 z12 : Option Value} {r : List (Option Value)} (d : decode cc pc = .ok (.dload 13, 2)) (k : AW G p l e R s m args below meth c A nL Q V (pc + 2) (z0 :: z1 :: z2 :: z3 :: z4 :: z5 :: z6 :: z7 :: z8 :: z9 :: z10 :: z11 :: z12 :: some (.double x) :: r) (.double x :: st)) : AW G p l e R s m args below meth c A nL Q V pc (z0 :: z1 :: z2 :: z3 :: z4 :: z5 :: z6 :: z7 :: z8 :: z9 :: z10 :: z11 :: z12 :: some (.double x) :: r) st :=
  fun h n u hV H locs ls hz hu hR hA hS hl => lv_dload C.1 C.2.1 d (a_get hl rfl) (k h n u hV H locs ls hz hu hR hA hS hl)
theorem a_lload_13 (C : Cx G p l s m args meth c A y cc nL rt) {x : Int64} {z0 z1 z2 z3 z4 z5 z6 z7 z8 z9 z10 z11 z12 : Option Value} {r : List (Option Value)} (d : decode cc pc = .ok (.lload 13, 2)) (k : AW G p l e R s m args below meth c A nL Q V (pc + 2) (z0 :: z1 :: z2 :: z3 :: z4 :: z5 :: z6 :: z7 :: z8 :: z9 :: z10 :: z11 :: z12 :: some (.long x) :: r) (.long x :: st)) : AW G p l e R s m args below meth c A nL Q V pc (z0 :: z1 :: z2 :: z3 :: z4 :: z5 :: z6 :: z7 :: z8 :: z9 :: z10 :: z11 :: z12 :: some (.long x) :: r) st :=
  fun h n u hV H locs ls hz hu hR hA hS hl => lv_lload C.1 C.2.1 d (a_get hl rfl) (k h n u hV H locs ls hz hu hR hA hS hl)
theorem a_istore_0 (C : Cx G p l s m args meth c A y cc nL rt) {x : Int32} {zk : Option Value} {r : List (Option Value)} (d : decode cc pc = .ok (.istore_n 0, 1)) (hn : 0 < nL) (k : AW G p l e R s m args below meth c A nL Q V (pc + 1) (some (.int x) :: r) st) : AW G p l e R s m args below meth c A nL Q V pc (zk :: r) (.int x :: st) :=
  fun h n u hV H locs ls hz hu hR hA hS hl => lv_istore_n C.1 C.2.1 d rfl hl hn rfl (fun ls hl => k h n u hV H locs ls hz hu hR hA hS (a_set (L := (zk :: r)) (i := 0) a_hc0 hl))
theorem a_astore_0 (C : Cx G p l s m args meth c A y cc nL rt) {x : Nat} {zk : Option Value} {r : List (Option Value)} (d : decode cc pc = .ok (.astore_n 0, 1)) (hn : 0 < nL) (k : AW G p l e R s m args below meth c A nL Q V (pc + 1) (some (.ref x) :: r) st) : AW G p l e R s m args below meth c A nL Q V pc (zk :: r) (.ref x :: st) :=
  fun h n u hV H locs ls hz hu hR hA hS hl => lv_astore_n C.1 C.2.1 d rfl hl hn rfl (fun ls hl => k h n u hV H locs ls hz hu hR hA hS (a_set (L := (zk :: r)) (i := 0) a_hc0 hl))
theorem a_astoreN_0 (C : Cx G p l s m args meth c A y cc nL rt) {zk : Option Value} {r : List (Option Value)} (d : decode cc pc = .ok (.astore_n 0, 1)) (hn : 0 < nL) (k : AW G p l e R s m args below meth c A nL Q V (pc + 1) (some (.null) :: r) st) : AW G p l e R s m args below meth c A nL Q V pc (zk :: r) (.null :: st) :=
  fun h n u hV H locs ls hz hu hR hA hS hl => lv_astore_nN C.1 C.2.1 d rfl hl hn rfl (fun ls hl => k h n u hV H locs ls hz hu hR hA hS (a_set (L := (zk :: r)) (i := 0) a_hc0 hl))
theorem a_istore_1 (C : Cx G p l s m args meth c A y cc nL rt) {x : Int32} {z0 : Option Value} {zk : Option Value} {r : List (Option Value)} (d : decode cc pc = .ok (.istore_n 1, 1)) (hn : 1 < nL) (hc : a_c1 z0 = true) (k : AW G p l e R s m args below meth c A nL Q V (pc + 1) (z0 :: some (.int x) :: r) st) : AW G p l e R s m args below meth c A nL Q V pc (z0 :: zk :: r) (.int x :: st) :=
  fun h n u hV H locs ls hz hu hR hA hS hl => lv_istore_n C.1 C.2.1 d rfl hl hn rfl (fun ls hl => k h n u hV H locs ls hz hu hR hA hS (a_set (L := (z0 :: zk :: r)) (i := 1) (a_hc (i := 0) rfl hc) hl))
theorem a_astore_1 (C : Cx G p l s m args meth c A y cc nL rt) {x : Nat} {z0 : Option Value} {zk : Option Value} {r : List (Option Value)} (d : decode cc pc = .ok (.astore_n 1, 1)) (hn : 1 < nL) (hc : a_c1 z0 = true) (k : AW G p l e R s m args below meth c A nL Q V (pc + 1) (z0 :: some (.ref x) :: r) st) : AW G p l e R s m args below meth c A nL Q V pc (z0 :: zk :: r) (.ref x :: st) :=
  fun h n u hV H locs ls hz hu hR hA hS hl => lv_astore_n C.1 C.2.1 d rfl hl hn rfl (fun ls hl => k h n u hV H locs ls hz hu hR hA hS (a_set (L := (z0 :: zk :: r)) (i := 1) (a_hc (i := 0) rfl hc) hl))
theorem a_astoreN_1 (C : Cx G p l s m args meth c A y cc nL rt) {z0 : Option Value} {zk : Option Value} {r : List (Option Value)} (d : decode cc pc = .ok (.astore_n 1, 1)) (hn : 1 < nL) (hc : a_c1 z0 = true) (k : AW G p l e R s m args below meth c A nL Q V (pc + 1) (z0 :: some (.null) :: r) st) : AW G p l e R s m args below meth c A nL Q V pc (z0 :: zk :: r) (.null :: st) :=
  fun h n u hV H locs ls hz hu hR hA hS hl => lv_astore_nN C.1 C.2.1 d rfl hl hn rfl (fun ls hl => k h n u hV H locs ls hz hu hR hA hS (a_set (L := (z0 :: zk :: r)) (i := 1) (a_hc (i := 0) rfl hc) hl))
theorem a_istore_2 (C : Cx G p l s m args meth c A y cc nL rt) {x : Int32} {z0 z1 : Option Value} {zk : Option Value} {r : List (Option Value)} (d : decode cc pc = .ok (.istore_n 2, 1)) (hn : 2 < nL) (hc : a_c1 z1 = true) (k : AW G p l e R s m args below meth c A nL Q V (pc + 1) (z0 :: z1 :: some (.int x) :: r) st) : AW G p l e R s m args below meth c A nL Q V pc (z0 :: z1 :: zk :: r) (.int x :: st) :=
  fun h n u hV H locs ls hz hu hR hA hS hl => lv_istore_n C.1 C.2.1 d rfl hl hn rfl (fun ls hl => k h n u hV H locs ls hz hu hR hA hS (a_set (L := (z0 :: z1 :: zk :: r)) (i := 2) (a_hc (i := 1) rfl hc) hl))
theorem a_astore_2 (C : Cx G p l s m args meth c A y cc nL rt) {x : Nat} {z0 z1 : Option Value} {zk : Option Value} {r : List (Option Value)} (d : decode cc pc = .ok (.astore_n 2, 1)) (hn : 2 < nL) (hc : a_c1 z1 = true) (k : AW G p l e R s m args below meth c A nL Q V (pc + 1) (z0 :: z1 :: some (.ref x) :: r) st) : AW G p l e R s m args below meth c A nL Q V pc (z0 :: z1 :: zk :: r) (.ref x :: st) :=
  fun h n u hV H locs ls hz hu hR hA hS hl => lv_astore_n C.1 C.2.1 d rfl hl hn rfl (fun ls hl => k h n u hV H locs ls hz hu hR hA hS (a_set (L := (z0 :: z1 :: zk :: r)) (i := 2) (a_hc (i := 1) rfl hc) hl))
theorem a_astoreN_2 (C : Cx G p l s m args meth c A y cc nL rt) {z0 z1 : Option Value} {zk : Option Value} {r : List (Option Value)} (d : decode cc pc = .ok (.astore_n 2, 1)) (hn : 2 < nL) (hc : a_c1 z1 = true) (k : AW G p l e R s m args below meth c A nL Q V (pc + 1) (z0 :: z1 :: some (.null) :: r) st) : AW G p l e R s m args below meth c A nL Q V pc (z0 :: z1 :: zk :: r) (.null :: st) :=
  fun h n u hV H locs ls hz hu hR hA hS hl => lv_astore_nN C.1 C.2.1 d rfl hl hn rfl (fun ls hl => k h n u hV H locs ls hz hu hR hA hS (a_set (L := (z0 :: z1 :: zk :: r)) (i := 2) (a_hc (i := 1) rfl hc) hl))
theorem a_istore_3 (C : Cx G p l s m args meth c A y cc nL rt) {x : Int32} {z0 z1 z2 : Option Value} {zk : Option Value} {r : List (Option Value)} (d : decode cc pc = .ok (.istore_n 3, 1)) (hn : 3 < nL) (hc : a_c1 z2 = true) (k : AW G p l e R s m args below meth c A nL Q V (pc + 1) (z0 :: z1 :: z2 :: some (.int x) :: r) st) : AW G p l e R s m args below meth c A nL Q V pc (z0 :: z1 :: z2 :: zk :: r) (.int x :: st) :=
  fun h n u hV H locs ls hz hu hR hA hS hl => lv_istore_n C.1 C.2.1 d rfl hl hn rfl (fun ls hl => k h n u hV H locs ls hz hu hR hA hS (a_set (L := (z0 :: z1 :: z2 :: zk :: r)) (i := 3) (a_hc (i := 2) rfl hc) hl))
theorem a_astore_3 (C : Cx G p l s m args meth c A y cc nL rt) {x : Nat} {z0 z1 z2 : Option Value} {zk : Option Value} {r : List (Option Value)} (d : decode cc pc = .ok (.astore_n 3, 1)) (hn : 3 < nL) (hc : a_c1 z2 = true) (k : AW G p l e R s m args below meth c A nL Q V (pc + 1) (z0 :: z1 :: z2 :: some (.ref x) :: r) st) : AW G p l e R s m args below meth c A nL Q V pc (z0 :: z1 :: z2 :: zk :: r) (.ref x :: st) :=
  fun h n u hV H locs ls hz hu hR hA hS hl => lv_astore_n C.1 C.2.1 d rfl hl hn rfl (fun ls hl => k h n u hV H locs ls hz hu hR hA hS (a_set (L := (z0 :: z1 :: z2 :: zk :: r)) (i := 3) (a_hc (i := 2) rfl hc) hl))
theorem a_astoreN_3 (C : Cx G p l s m args meth c A y cc nL rt) {z0 z1 z2 : Option Value} {zk : Option Value} {r : List (Option Value)} (d : decode cc pc = .ok (.astore_n 3, 1)) (hn : 3 < nL) (hc : a_c1 z2 = true) (k : AW G p l e R s m args below meth c A nL Q V (pc + 1) (z0 :: z1 :: z2 :: some (.null) :: r) st) : AW G p l e R s m args below meth c A nL Q V pc (z0 :: z1 :: z2 :: zk :: r) (.null :: st) :=
  fun h n u hV H locs ls hz hu hR hA hS hl => lv_astore_nN C.1 C.2.1 d rfl hl hn rfl (fun ls hl => k h n u hV H locs ls hz hu hR hA hS (a_set (L := (z0 :: z1 :: z2 :: zk :: r)) (i := 3) (a_hc (i := 2) rfl hc) hl))
theorem a_istore_4 (C : Cx G p l s m args meth c A y cc nL rt) {x : Int32} {z0 z1 z2 z3 : Option Value} {zk : Option Value} {r : List (Option Value)} (d : decode cc pc = .ok (.istore 4, 2)) (hn : 4 < nL) (hc : a_c1 z3 = true) (k : AW G p l e R s m args below meth c A nL Q V (pc + 2) (z0 :: z1 :: z2 :: z3 :: some (.int x) :: r) st) : AW G p l e R s m args below meth c A nL Q V pc (z0 :: z1 :: z2 :: z3 :: zk :: r) (.int x :: st) :=
  fun h n u hV H locs ls hz hu hR hA hS hl => lv_istore C.1 C.2.1 d hl hn rfl (fun ls hl => k h n u hV H locs ls hz hu hR hA hS (a_set (L := (z0 :: z1 :: z2 :: z3 :: zk :: r)) (i := 4) (a_hc (i := 3) rfl hc) hl))
theorem a_astore_4 (C : Cx G p l s m args meth c A y cc nL rt) {x : Nat} {z0 z1 z2 z3 : Option Value} {zk : Option Value} {r : List (Option Value)} (d : decode cc pc = .ok (.astore 4, 2)) (hn : 4 < nL) (hc : a_c1 z3 = true) (k : AW G p l e R s m args below meth c A nL Q V (pc + 2) (z0 :: z1 :: z2 :: z3 :: some (.ref x) :: r) st) : AW G p l e R s m args below meth c A nL Q V pc (z0 :: z1 :: z2 :: z3 :: zk :: r) (.ref x :: st) :=
  fun h n u hV H locs ls hz hu hR hA hS hl => lv_astore C.1 C.2.1 d hl hn rfl (fun ls hl => k h n u hV H locs ls hz hu hR hA hS (a_set (L := (z0 :: z1 :: z2 :: z3 :: zk :: r)) (i := 4) (a_hc (i := 3) rfl hc) hl))
theorem a_astoreN_4 (C : Cx G p l s m args meth c A y cc nL rt) {z0 z1 z2 z3 : Option Value} {zk : Option Value} {r : List (Option Value)} (d : decode cc pc = .ok (.astore 4, 2)) (hn : 4 < nL) (hc : a_c1 z3 = true) (k : AW G p l e R s m args below meth c A nL Q V (pc + 2) (z0 :: z1 :: z2 :: z3 :: some (.null) :: r) st) : AW G p l e R s m args below meth c A nL Q V pc (z0 :: z1 :: z2 :: z3 :: zk :: r) (.null :: st) :=
  fun h n u hV H locs ls hz hu hR hA hS hl => lv_astoreN C.1 C.2.1 d hl hn rfl (fun ls hl => k h n u hV H locs ls hz hu hR hA hS (a_set (L := (z0 :: z1 :: z2 :: z3 :: zk :: r)) (i := 4) (a_hc (i := 3) rfl hc) hl))
theorem a_istore_5 (C : Cx G p l s m args meth c A y cc nL rt) {x : Int32} {z0 z1 z2 z3 z4 : Option Value} {zk : Option Value} {r : List (Option Value)} (d : decode cc pc = .ok (.istore 5, 2)) (hn : 5 < nL) (hc : a_c1 z4 = true) (k : AW G p l e R s m args below meth c A nL Q V (pc + 2) (z0 :: z1 :: z2 :: z3 :: z4 :: some (.int x) :: r) st) : AW G p l e R s m args below meth c A nL Q V pc (z0 :: z1 :: z2 :: z3 :: z4 :: zk :: r) (.int x :: st) :=
  fun h n u hV H locs ls hz hu hR hA hS hl => lv_istore C.1 C.2.1 d hl hn rfl (fun ls hl => k h n u hV H locs ls hz hu hR hA hS (a_set (L := (z0 :: z1 :: z2 :: z3 :: z4 :: zk :: r)) (i := 5) (a_hc (i := 4) rfl hc) hl))
theorem a_astore_5 (C : Cx G p l s m args meth c A y cc nL rt) {x : Nat} {z0 z1 z2 z3 z4 : Option Value} {zk : Option Value} {r : List (Option Value)} (d : decode cc pc = .ok (.astore 5, 2)) (hn : 5 < nL) (hc : a_c1 z4 = true) (k : AW G p l e R s m args below meth c A nL Q V (pc + 2) (z0 :: z1 :: z2 :: z3 :: z4 :: some (.ref x) :: r) st) : AW G p l e R s m args below meth c A nL Q V pc (z0 :: z1 :: z2 :: z3 :: z4 :: zk :: r) (.ref x :: st) :=
  fun h n u hV H locs ls hz hu hR hA hS hl => lv_astore C.1 C.2.1 d hl hn rfl (fun ls hl => k h n u hV H locs ls hz hu hR hA hS (a_set (L := (z0 :: z1 :: z2 :: z3 :: z4 :: zk :: r)) (i := 5) (a_hc (i := 4) rfl hc) hl))
theorem a_astoreN_5 (C : Cx G p l s m args meth c A y cc nL rt) {z0 z1 z2 z3 z4 : Option Value} {zk : Option Value} {r : List (Option Value)} (d : decode cc pc = .ok (.astore 5, 2)) (hn : 5 < nL) (hc : a_c1 z4 = true) (k : AW G p l e R s m args below meth c A nL Q V (pc + 2) (z0 :: z1 :: z2 :: z3 :: z4 :: some (.null) :: r) st) : AW G p l e R s m args below meth c A nL Q V pc (z0 :: z1 :: z2 :: z3 :: z4 :: zk :: r) (.null :: st) :=
  fun h n u hV H locs ls hz hu hR hA hS hl => lv_astoreN C.1 C.2.1 d hl hn rfl (fun ls hl => k h n u hV H locs ls hz hu hR hA hS (a_set (L := (z0 :: z1 :: z2 :: z3 :: z4 :: zk :: r)) (i := 5) (a_hc (i := 4) rfl hc) hl))
theorem a_istore_6 (C : Cx G p l s m args meth c A y cc nL rt) {x : Int32} {z0 z1 z2 z3 z4 z5 : Option Value} {zk : Option Value} {r : List (Option Value)} (d : decode cc pc = .ok (.istore 6, 2)) (hn : 6 < nL) (hc : a_c1 z5 = true) (k : AW G p l e R s m args below meth c A nL Q V (pc + 2) (z0 :: z1 :: z2 :: z3 :: z4 :: z5 :: some (.int x) :: r) st) : AW G p l e R s m args below meth c A nL Q V pc (z0 :: z1 :: z2 :: z3 :: z4 :: z5 :: zk :: r) (.int x :: st) :=
  fun h n u hV H locs ls hz hu hR hA hS hl => lv_istore C.1 C.2.1 d hl hn rfl (fun ls hl => k h n u hV H locs ls hz hu hR hA hS (a_set (L := (z0 :: z1 :: z2 :: z3 :: z4 :: z5 :: zk :: r)) (i := 6) (a_hc (i := 5) rfl hc) hl))
theorem a_astore_6 (C : Cx G p l s m args meth c A y cc nL rt) {x : Nat} {z0 z1 z2 z3 z4 z5 : Option Value} {zk : Option Value} {r : List (Option Value)} (d : decode cc pc = .ok (.astore 6, 2)) (hn : 6 < nL) (hc : a_c1 z5 = true) (k : AW G p l e R s m args below meth c A nL Q V (pc + 2) (z0 :: z1 :: z2 :: z3 :: z4 :: z5 :: some (.ref x) :: r) st) : AW G p l e R s m args below meth c A nL Q V pc (z0 :: z1 :: z2 :: z3 :: z4 :: z5 :: zk :: r) (.ref x :: st) :=
  fun h n u hV H locs ls hz hu hR hA hS hl => lv_astore C.1 C.2.1 d hl hn rfl (fun ls hl => k h n u hV H locs ls hz hu hR hA hS (a_set (L := (z0 :: z1 :: z2 :: z3 :: z4 :: z5 :: zk :: r)) (i := 6) (a_hc (i := 5) rfl hc) hl))
theorem a_astoreN_6 (C : Cx G p l s m args meth c A y cc nL rt) {z0 z1 z2 z3 z4 z5 : Option Value} {zk : Option Value} {r : List (Option Value)} (d : decode cc pc = .ok (.astore 6, 2)) (hn : 6 < nL) (hc : a_c1 z5 = true) (k : AW G p l e R s m args below meth c A nL Q V (pc + 2) (z0 :: z1 :: z2 :: z3 :: z4 :: z5 :: some (.null) :: r) st) : AW G p l e R s m args below meth c A nL Q V pc (z0 :: z1 :: z2 :: z3 :: z4 :: z5 :: zk :: r) (.null :: st) :=
  fun h n u hV H locs ls hz hu hR hA hS hl => lv_astoreN C.1 C.2.1 d hl hn rfl (fun ls hl => k h n u hV H locs ls hz hu hR hA hS (a_set (L := (z0 :: z1 :: z2 :: z3 :: z4 :: z5 :: zk :: r)) (i := 6) (a_hc (i := 5) rfl hc) hl))
theorem a_istore_7 (C : Cx G p l s m args meth c A y cc nL rt) {x : Int32} {z0 z1 z2 z3 z4 z5 z6 : Option Value} {zk : Option Value} {r : List (Option Value)} (d : decode cc pc = .ok (.istore 7, 2)) (hn : 7 < nL) (hc : a_c1 z6 = true) (k : AW G p l e R s m args below meth c A nL Q V (pc + 2) (z0 :: z1 :: z2 :: z3 :: z4 :: z5 :: z6 :: some (.int x) :: r) st) : AW G p l e R s m args below meth c A nL Q V pc (z0 :: z1 :: z2 :: z3 :: z4 :: z5 :: z6 :: zk :: r) (.int x :: st) :=
  fun h n u hV H locs ls hz hu hR hA hS hl => lv_istore C.1 C.2.1 d hl hn rfl (fun ls hl => k h n u hV H locs ls hz hu hR hA hS (a_set (L := (z0 :: z1 :: z2 :: z3 :: z4 :: z5 :: z6 :: zk :: r)) (i := 7) (a_hc (i := 6) rfl hc) hl))
theorem a_astore_7 (C : Cx G p l s m args meth c A y cc nL rt) {x : Nat} {z0 z1 z2 z3 z4 z5 z6 : Option Value} {zk : Option Value} {r : List (Option Value)} (d : decode cc pc = .ok (.astore 7, 2)) (hn : 7 < nL) (hc : a_c1 z6 = true) (k : AW G p l e R s m args below meth c A nL Q V (pc + 2) (z0 :: z1 :: z2 :: z3 :: z4 :: z5 :: z6 :: some (.ref x) :: r) st) : AW G p l e R s m args below meth c A nL Q V pc (z0 :: z1 :: z2 :: z3 :: z4 :: z5 :: z6 :: zk :: r) (.ref x :: st) :=
  fun h n u hV H locs ls hz hu hR hA hS hl => lv_astore C.1 C.2.1 d hl hn rfl (fun ls hl => k h n u hV H locs ls hz hu hR hA hS (a_set (L := (z0 :: z1 :: z2 :: z3 :: z4 :: z5 :: z6 :: zk :: r)) (i := 7) (a_hc (i := 6) rfl hc) hl))
theorem a_astoreN_7 (C : Cx G p l s m args meth c A y cc nL rt) {z0 z1 z2 z3 z4 z5 z6 : Option Value} {zk : Option Value} {r : List (Option Value)} (d : decode cc pc = .ok (.astore 7, 2)) (hn : 7 < nL) (hc : a_c1 z6 = true) (k : AW G p l e R s m args below meth c A nL Q V (pc + 2) (z0 :: z1 :: z2 :: z3 :: z4 :: z5 :: z6 :: some (.null) :: r) st) : AW G p l e R s m args below meth c A nL Q V pc (z0 :: z1 :: z2 :: z3 :: z4 :: z5 :: z6 :: zk :: r) (.null :: st) :=
  fun h n u hV H locs ls hz hu hR hA hS hl => lv_astoreN C.1 C.2.1 d hl hn rfl (fun ls hl => k h n u hV H locs ls hz hu hR hA hS (a_set (L := (z0 :: z1 :: z2 :: z3 :: z4 :: z5 :: z6 :: zk :: r)) (i := 7) (a_hc (i := 6) rfl hc) hl))
theorem a_istore_8 (C : Cx G p l s m args meth c A y cc nL rt) {x : Int32} {z0 z1 z2 z3 z4 z5 z6 z7 : Option Value} {zk : Option Value} {r : List (Option Value)} (d : decode cc pc = .ok (.istore 8, 2)) (hn : 8 < nL) (hc : a_c1 z7 = true) (k : AW G p l e R s m args below meth c A nL Q V (pc + 2) (z0 :: z1 :: z2 :: z3 :: z4 :: z5 :: z6 :: z7 :: some (.int x) :: r) st) : AW G p l e R s m args below meth c A nL Q V pc (z0 :: z1 :: z2 :: z3 :: z4 :: z5 :: z6 :: z7 :: zk :: r) (.int x :: st) :=
  fun h n u hV H locs ls hz hu hR hA hS hl => lv_istore C.1 C.2.1 d hl hn rfl (fun ls hl => k h n u hV H locs ls hz hu hR hA hS (a_set (L := (z0 :: z1 :: z2 :: z3 :: z4 :: z5 :: z6 :: z7 :: zk :: r)) (i := 8) (a_hc (i := 7) rfl hc) hl))
theorem a_astore_8 (C : Cx G p l s m args meth c A y cc nL rt) {x : Nat} {z0 z1 z2 z3 z4 z5 z6 z7 : Option Value} {zk : Option Value} {r : List (Option Value)} (d : decode cc pc = .ok (.astore 8, 2)) (hn : 8 < nL) (hc : a_c1 z7 = true) (k : AW G p l e R s m args below meth c A nL Q V (pc + 2) (z0 :: z1 :: z2 :: z3 :: z4 :: z5 :: z6 :: z7 :: some (.ref x) :: r) st) : AW G p l e R s m args below meth c A nL Q V pc (z0 :: z1 :: z2 :: z3 :: z4 :: z5 :: z6 :: z7 :: zk :: r) (.ref x :: st) :=
  fun h n u hV H locs ls hz hu hR hA hS hl => lv_astore C.1 C.2.1 d hl hn rfl (fun ls hl => k h n u hV H locs ls hz hu hR hA hS (a_set (L := (z0 :: z1 :: z2 :: z3 :: z4 :: z5 :: z6 :: z7 :: zk :: r)) (i := 8) (a_hc (i := 7) rfl hc) hl))
theorem a_astoreN_8 (C : Cx G p l s m args meth c A y cc nL rt) {z0 z1 z2 z3 z4 z5 z6 z7 : Option Value} {zk : Option Value} {r : List (Option Value)} (d : decode cc pc = .ok (.astore 8, 2)) (hn : 8 < nL) (hc : a_c1 z7 = true) (k : AW G p l e R s m args below meth c A nL Q V (pc + 2) (z0 :: z1 :: z2 :: z3 :: z4 :: z5 :: z6 :: z7 :: some (.null) :: r) st) : AW G p l e R s m args below meth c A nL Q V pc (z0 :: z1 :: z2 :: z3 :: z4 :: z5 :: z6 :: z7 :: zk :: r) (.null :: st) :=
  fun h n u hV H locs ls hz hu hR hA hS hl => lv_astoreN C.1 C.2.1 d hl hn rfl (fun ls hl => k h n u hV H locs ls hz hu hR hA hS (a_set (L := (z0 :: z1 :: z2 :: z3 :: z4 :: z5 :: z6 :: z7 :: zk :: r)) (i := 8) (a_hc (i := 7) rfl hc) hl))
theorem a_istore_9 (C : Cx G p l s m args meth c A y cc nL rt) {x : Int32} {z0 z1 z2 z3 z4 z5 z6 z7 z8 : Option Value} {zk : Option Value} {r : List (Option Value)} (d : decode cc pc = .ok (.istore 9, 2)) (hn : 9 < nL) (hc : a_c1 z8 = true) (k : AW G p l e R s m args below meth c A nL Q V (pc + 2) (z0 :: z1 :: z2 :: z3 :: z4 :: z5 :: z6 :: z7 :: z8 :: some (.int x) :: r) st) : AW G p l e R s m args below meth c A nL Q V pc (z0 :: z1 :: z2 :: z3 :: z4 :: z5 :: z6 :: z7 :: z8 :: zk :: r) (.int x :: st) :=
  fun h n u hV H locs ls hz hu hR hA hS hl => lv_istore C.1 C.2.1 d hl hn rfl (fun ls hl => k h n u hV H locs ls hz hu hR hA hS (a_set (L := (z0 :: z1 :: z2 :: z3 :: z4 :: z5 :: z6 :: z7 :: z8 :: zk :: r)) (i := 9) (a_hc (i := 8) rfl hc) hl))
theorem a_astore_9 (C : Cx G p l s m args meth c A y cc nL rt) {x : Nat} {z0 z1 z2 z3 z4 z5 z6 z7 z8 : Option Value} {zk : Option Value} {r : List (Option Value)} (d : decode cc pc = .ok (.astore 9, 2)) (hn : 9 < nL) (hc : a_c1 z8 = true) (k : AW G p l e R s m args below meth c A nL Q V (pc + 2) (z0 :: z1 :: z2 :: z3 :: z4 :: z5 :: z6 :: z7 :: z8 :: some (.ref x) :: r) st) : AW G p l e R s m args below meth c A nL Q V pc (z0 :: z1 :: z2 :: z3 :: z4 :: z5 :: z6 :: z7 :: z8 :: zk :: r) (.ref x :: st) :=
  fun h n u hV H locs ls hz hu hR hA hS hl => lv_astore C.1 C.2.1 d hl hn rfl (fun ls hl => k h n u hV H locs ls hz hu hR hA hS (a_set (L := (z0 :: z1 :: z2 :: z3 :: z4 :: z5 :: z6 :: z7 :: z8 :: zk :: r)) (i := 9) (a_hc (i := 8) rfl hc) hl))
theorem a_astoreN_9 (C : Cx G p l s m args meth c A y cc nL rt) {z0 z1 z2 z3 z4 z5 z6 z7 z8 : Option Value} {zk : Option Value} {r : List (Option Value)} (d : decode cc pc = .ok (.astore 9, 2)) (hn : 9 < nL) (hc : a_c1 z8 = true) (k : AW G p l e R s m args below meth c A nL Q V (pc + 2) (z0 :: z1 :: z2 :: z3 :: z4 :: z5 :: z6 :: z7 :: z8 :: some (.null) :: r) st) : AW G p l e R s m args below meth c A nL Q V pc (z0 :: z1 :: z2 :: z3 :: z4 :: z5 :: z6 :: z7 :: z8 :: zk :: r) (.null :: st) :=
  fun h n u hV H locs ls hz hu hR hA hS hl => lv_astoreN C.1 C.2.1 d hl hn rfl (fun ls hl => k h n u hV H locs ls hz hu hR hA hS (a_set (L := (z0 :: z1 :: z2 :: z3 :: z4 :: z5 :: z6 :: z7 :: z8 :: zk :: r)) (i := 9) (a_hc (i := 8) rfl hc) hl))
theorem a_istore_10 (C : Cx G p l s m args meth c A y cc nL rt) {x : Int32} {z0 z1 z2 z3 z4 z5 z6 z7 z8 z9 : Option Value} {zk : Option Value} {r : List (Option Value)} (d : decode cc pc = .ok (.istore 10, 2)) (hn : 10 < nL) (hc : a_c1 z9 = true) (k : AW G p l e R s m args below meth c A nL Q V (pc + 2) (z0 :: z1 :: z2 :: z3 :: z4 :: z5 :: z6 :: z7 :: z8 :: z9 :: some (.int x) :: r) st) : AW G p l e R s m args below meth c A nL Q V pc (z0 :: z1 :: z2 :: z3 :: z4 :: z5 :: z6 :: z7 :: z8 :: z9 :: zk :: r) (.int x :: st) :=
  fun h n u hV H locs ls hz hu hR hA hS hl => lv_istore C.1 C.2.1 d hl hn rfl (fun ls hl => k h n u hV H locs ls hz hu hR hA hS (a_set (L := (z0 :: z1 :: z2 :: z3 :: z4 :: z5 :: z6 :: z7 :: z8 :: z9 :: zk :: r)) (i := 10) (a_hc (i := 9) rfl hc) hl))
theorem a_astore_10 (C : Cx G p l s m args meth c A y cc nL rt) {x : Nat} {z0 z1 z2 z3 z4 z5 z6 z7 z8 z9 : Option Value} {zk : Option Value} {r : List (Option Value)} (d : decode cc pc = .ok (.astore 10, 2)) (hn : 10 < nL) (hc : a_c1 z9 = true) (k : AW G p l e R s m args below meth c A nL Q V (pc + 2) (z0 :: z1 :: z2 :: z3 :: z4 :: z5 :: z6 :: z7 :: z8 :: z9 :: some (.ref x) :: r) st) : AW G p l e R s m args below meth c A nL Q V pc (z0 :: z1 :: z2 :: z3 :: z4 :: z5 :: z6 :: z7 :: z8 :: z9 :: zk :: r) (.ref x :: st) :=
  fun h n u hV H locs ls hz hu hR hA hS hl => lv_astore C.1 C.2.1 d hl hn rfl (fun ls hl => k h n u hV H locs ls hz hu hR hA hS (a_set (L := (z0 :: z1 :: z2 :: z3 :: z4 :: z5 :: z6 :: z7 :: z8 :: z9 :: zk :: r)) (i := 10) (a_hc (i := 9) rfl hc) hl))
theorem a_astoreN_10 (C : Cx G p l s m args meth c A y cc nL rt) {z0 z1 z2 z3 z4 z5 z6 z7 z8 z9 : Option Value} {zk : Option Value} {r : List (Option Value)} (d : decode cc pc = .ok (.astore 10, 2)) (hn : 10 < nL) (hc : a_c1 z9 = true) (k : AW G p l e R s m args below meth c A nL Q V (pc + 2) (z0 :: z1 :: z2 :: z3 :: z4 :: z5 :: z6 :: z7 :: z8 :: z9 :: some (.null) :: r) st) : AW G p l e R s m args below meth c A nL Q V pc (z0 :: z1 :: z2 :: z3 :: z4 :: z5 :: z6 :: z7 :: z8 :: z9 :: zk :: r) (.null :: st) :=
  fun h n u hV H locs ls hz hu hR hA hS hl => lv_astoreN C.1 C.2.1 d hl hn rfl (fun ls hl => k h n u hV H locs ls hz hu hR hA hS (a_set (L := (z0 :: z1 :: z2 :: z3 :: z4 :: z5 :: z6 :: z7 :: z8 :: z9 :: zk :: r)) (i := 10) (a_hc (i := 9) rfl hc) hl))
theorem a_istore_11 (C : Cx G p l s m args meth c A y cc nL rt) {x : Int32} {z0 z1 z2 z3 z4 z5 z6 z7 z8 z9 z10 : Option Value} {zk : Option Value} {r : List (Option Value)} (d : decode cc pc = .ok (.istore 11, 2)) (hn : 11 < nL) (hc : a_c1 z10 = true) (k : AW G p l e R s m args below meth c A nL Q V (pc + 2) (z0 :: z1 :: z2 :: z3 :: z4 :: z5 :: z6 :: z7 :: z8 :: z9 :: z10 :: some (.int x) :: r) st) : AW G p l e R s m args below meth c A nL Q V pc (z0 :: z1 :: z2 :: z3 :: z4 :: z5 :: z6 :: z7 :: z8 :: z9 :: z10 :: zk :: r) (.int x :: st) :=
  fun h n u hV H locs ls hz hu hR hA hS hl => lv_istore C.1 C.2.1 d hl hn rfl (fun ls hl => k h n u hV H locs ls hz hu hR hA hS (a_set (L := (z0 :: z1 :: z2 :: z3 :: z4 :: z5 :: z6 :: z7 :: z8 :: z9 :: z10 :: zk :: r)) (i := 11) (a_hc (i := 10) rfl hc) hl))
theorem a_astore_11 (C : Cx G p l s m args meth c A y cc nL rt) {x : Nat} {z0 z1 z2 z3 z4 z5 z6 z7 z8 z9 z10 : Option Value} {zk : Option Value} {r : List (Option Value)} (d : decode cc pc = .ok (.astore 11, 2)) (hn : 11 < nL) (hc : a_c1 z10 = true) (k : AW G p l e R s m args below meth c A nL Q V (pc + 2) (z0 :: z1 :: z2 :: z3 :: z4 :: z5 :: z6 :: z7 :: z8 :: z9 :: z10 :: some (.ref x) :: r) st) : AW G p l e R s m args below meth c A nL Q V pc (z0 :: z1 :: z2 :: z3 :: z4 :: z5 :: z6 :: z7 :: z8 :: z9 :: z10 :: zk :: r) (.ref x :: st) :=
  fun h n u hV H locs ls hz hu hR hA hS hl => lv_astore C.1 C.2.1 d hl hn rfl (fun ls hl => k h n u hV H locs ls hz hu hR hA hS (a_set (L := (z0 :: z1 :: z2 :: z3 :: z4 :: z5 :: z6 :: z7 :: z8 :: z9 :: z10 :: zk :: r)) (i := 11) (a_hc (i := 10) rfl hc) hl))
theorem a_astoreN_11 (C : Cx G p l s m args meth c A y cc nL rt) {z0 z1 z2 z3 z4 z5 z6 z7 z8 z9 z10 : Option Value} {zk : Option Value} {r : List (Option Value)} (d : decode cc pc = .ok (.astore 11, 2)) (hn : 11 < nL) (hc : a_c1 z10 = true) (k : AW G p l e R s m args below meth c A nL Q V (pc + 2) (z0 :: z1 :: z2 :: z3 :: z4 :: z5 :: z6 :: z7 :: z8 :: z9 :: z10 :: some (.null) :: r) st) : AW G p l e R s m args below meth c A nL Q V pc (z0 :: z1 :: z2 :: z3 :: z4 :: z5 :: z6 :: z7 :: z8 :: z9 :: z10 :: zk :: r) (.null :: st) :=
  fun h n u hV H locs ls hz hu hR hA hS hl => lv_astoreN C.1 C.2.1 d hl hn rfl (fun ls hl => k h n u hV H locs ls hz hu hR hA hS (a_set (L := (z0 :: z1 :: z2 :: z3 :: z4 :: z5 :: z6 :: z7 :: z8 :: z9 :: z10 :: zk :: r)) (i := 11) (a_hc (i := 10) rfl hc) hl))
theorem a_istore_12 (C : Cx G p l s m args meth c A y cc nL rt) {x : Int32} {z0 z1 z2 z3 z4 z5 z6 z7 z8 z9 z10 z11 : Option Value} {zk : Option Value} {r : List (Option Value)} (d : decode cc pc = .ok (.istore 12, 2)) (hn : 12 < nL) (hc : a_c1 z11 = true) (k : AW G p l e R s m args below meth c A nL Q V (pc + 2) (z0 :: z1 :: z2 :: z3 :: z4 :: z5 :: z6 :: z7 :: z8 :: z9 :: z10 :: z11 :: some (.int x) :: r) st) : AW G p l e R s m args below meth c A nL Q V pc (z0 :: z1 :: z2 :: z3 :: z4 :: z5 :: z6 :: z7 :: z8 :: z9 :: z10 :: z11 :: zk :: r) (.int x :: st) :=
  fun h n u hV H locs ls hz hu hR hA hS hl => lv_istore C.1 C.2.1 d hl hn rfl (fun ls hl => k h n u hV H locs ls hz hu hR hA hS (a_set (L := (z0 :: z1 :: z2 :: z3 :: z4 :: z5 :: z6 :: z7 :: z8 :: z9 :: z10 :: z11 :: zk :: r)) (i := 12) (a_hc (i := 11) rfl hc) hl))
theorem a_astore_12 (C : Cx G p l s m args meth c A y cc nL rt) {x : Nat} {z0 z1 z2 z3 z4 z5 z6 z7 z8 z9 z10 z11 : Option Value} {zk : Option Value} {r : List (Option Value)} (d : decode cc pc = .ok (.astore 12, 2)) (hn : 12 < nL) (hc : a_c1 z11 = true) (k : AW G p l e R s m args below meth c A nL Q V (pc + 2) (z0 :: z1 :: z2 :: z3 :: z4 :: z5 :: z6 :: z7 :: z8 :: z9 :: z10 :: z11 :: some (.ref x) :: r) st) : AW G p l e R s m args below meth c A nL Q V pc (z0 :: z1 :: z2 :: z3 :: z4 :: z5 :: z6 :: z7 :: z8 :: z9 :: z10 :: z11 :: zk :: r) (.ref x :: st) :=
  fun h n u hV H locs ls hz hu hR hA hS hl => lv_astore C.1 C.2.1 d hl hn rfl (fun ls hl => k h n u hV H locs ls hz hu hR hA hS (a_set (L := (z0 :: z1 :: z2 :: z3 :: z4 :: z5 :: z6 :: z7 :: z8 :: z9 :: z10 :: z11 :: zk :: r)) (i := 12) (a_hc (i := 11) rfl hc) hl))
theorem a_astoreN_12 (C : Cx G p l s m args meth c A y cc nL rt) {z0 z1 z2 z3 z4 z5 z6 z7 z8 z9 z10 z11 : Option Value} {zk : Option Value} {r : List (Option Value)} (d : decode cc pc = .ok (.astore 12, 2)) (hn : 12 < nL) (hc : a_c1 z11 = true) (k : AW G p l e R s m args below meth c A nL Q V (pc + 2) (z0 :: z1 :: z2 :: z3 :: z4 :: z5 :: z6 :: z7 :: z8 :: z9 :: z10 :: z11 :: some (.null) :: r) st) : AW G p l e R s m args below meth c A nL Q V pc (z0 :: z1 :: z2 :: z3 :: z4 :: z5 :: z6 :: z7 :: z8 :: z9 :: z10 :: z11 :: zk :: r) (.null :: st) :=
  fun h n u hV H locs ls hz hu hR hA hS hl => lv_astoreN C.1 C.2.1 d hl hn rfl (fun ls hl => k h n u hV H locs ls hz hu hR hA hS (a_set (L := (z0 :: z1 :: z2 :: z3 :: z4 :: z5 :: z6 :: z7 :: z8 :: z9 :: z10 :: z11 :: zk :: r)) (i := 12) (a_hc (i := 11) rfl hc) hl))
theorem a_istore_13 (C : Cx G p l s m args meth c A y cc nL rt) {x : Int32} {z0 z1 z2 z3 z4 z5 z6 z7 z8 z9 z10 z11 z12 : Option Value} {zk : Option Value} {r : List (Option Value)} (d : decode cc pc = .ok (.istore 13, 2)) (hn : 13 < nL) (hc : a_c1 z12 = true) (k : AW G p l e R s m args below meth c A nL Q V (pc + 2) (z0 :: z1 :: z2 :: z3 :: z4 :: z5 :: z6 :: z7 :: z8 :: z9 :: z10 :: z11 :: z12 :: some (.int x) :: r) st) : AW G p l e R s m args below meth c A nL Q V pc (z0 :: z1 :: z2 :: z3 :: z4 :: z5 :: z6 :: z7 :: z8 :: z9 :: z10 :: z11 :: z12 :: zk :: r) (.int x :: st) :=
  fun h n u hV H locs ls hz hu hR hA hS hl => lv_istore C.1 C.2.1 d hl hn rfl (fun ls hl => k h n u hV H locs ls hz hu hR hA hS (a_set (L := (z0 :: z1 :: z2 :: z3 :: z4 :: z5 :: z6 :: z7 :: z8 :: z9 :: z10 :: z11 :: z12 :: zk :: r)) (i := 13) (a_hc (i := 12) rfl hc) hl))
theorem a_astore_13 (C : Cx G p l s m args meth c A y cc nL rt) {x : Nat} {z0 z1 z2 z3 z4 z5 z6 z7 z8 z9 z10 z11 z12 : Option Value} {zk : Option Value} {r : List (Option Value)} (d : decode cc pc = .ok (.astore 13, 2)) (hn : 13 < nL) (hc : a_c1 z12 = true) (k : AW G p l e R s m args below meth c A nL Q V (pc + 2) (z0 :: z1 :: z2 :: z3 :: z4 :: z5 :: z6 :: z7 :: z8 :: z9 :: z10 :: z11 :: z12 :: some (.ref x) :: r) st) : AW G p l e R s m args below meth c A nL Q V pc (z0 :: z1 :: z2 :: z3 :: z4 :: z5 :: z6 :: z7 :: z8 :: z9 :: z10 :: z11 :: z12 :: zk :: r) (.ref x :: st) :=
  fun h n u hV H locs ls hz hu hR hA hS hl => lv_astore C.1 C.2.1 d hl hn rfl (fun ls hl => k h n u hV H locs ls hz hu hR hA hS (a_set (L := (z0 :: z1 :: z2 :: z3 :: z4 :: z5 :: z6 :: z7 :: z8 :: z9 :: z10 :: z11 :: z12 :: zk :: r)) (i := 13) (a_hc (i := 12) rfl hc) hl))
theorem a_astoreN_13 (C : Cx G p l s m args meth c A y cc nL rt) {z0 z1 z2 z3 z4 z5 z6 z7 z8 z9 z10 z11 z12 : Option Value} {zk : Option Value} {r : List (Option Value)} (d : decode cc pc = .ok (.astore 13, 2)) (hn : 13 < nL) (hc : a_c1 z12 = true) (k : AW G p l e R s m args below meth c A nL Q V (pc + 2) (z0 :: z1 :: z2 :: z3 :: z4 :: z5 :: z6 :: z7 :: z8 :: z9 :: z10 :: z11 :: z12 :: some (.null) :: r) st) : AW G p l e R s m args below meth c A nL Q V pc (z0 :: z1 :: z2 :: z3 :: z4 :: z5 :: z6 :: z7 :: z8 :: z9 :: z10 :: z11 :: z12 :: zk :: r) (.null :: st) :=
  fun h n u hV H locs ls hz hu hR hA hS hl => lv_astoreN C.1 C.2.1 d hl hn rfl (fun ls hl => k h n u hV H locs ls hz hu hR hA hS (a_set (L := (z0 :: z1 :: z2 :: z3 :: z4 :: z5 :: z6 :: z7 :: z8 :: z9 :: z10 :: z11 :: z12 :: zk :: r)) (i := 13) (a_hc (i := 12) rfl hc) hl))
theorem a_iinc_0 (C : Cx G p l s m args meth c A y cc nL rt) {x : Int32} {N : Int} {v : Int32} {r : List (Option Value)} (d : decode cc pc = .ok (.iinc 0 N, 3)) (hv : Int32.ofInt N = v) (hn : 0 < nL) (k : AW G p l e R s m args below meth c A nL Q V (pc + 3) (some (.int (x + v)) :: r) st) : AW G p l e R s m args below meth c A nL Q V pc (some (.int x) :: r) st := by
  intro h n u hV H locs ls hz hu hR hA hS hl
  subst hv
  obtain ⟨j, hj⟩ := List.getElem?_of_mem ((a_L_mem (some (.int x) :: r) 0 (0, .int x)).mpr ⟨0, rfl, rfl⟩)
  exact lv_iinc C.1 C.2.1 d hl hj rfl hn rfl (fun ls hl => k h n u hV H locs ls hz hu hR hA hS (a_set (L := (some (.int x) :: r)) (i := 0) a_hc0 hl))
theorem a_iinc_1 (C : Cx G p l s m args meth c A y cc nL rt) {x : Int32} {N : Int} {v : Int32} {z0 : Option Value} {r : List (Option Value)} (d : decode cc pc = .ok (.iinc 1 N, 3)) (hv : Int32.ofInt N = v) (hn : 1 < nL) (hc : a_c1 z0 = true) (k : AW G p l e R s m args below meth c A nL Q V (pc + 3) (z0 :: some (.int (x + v)) :: r) st) : AW G p l e R s m args below meth c A nL Q V pc (z0 :: some (.int x) :: r) st := by
  intro h n u hV H locs ls hz hu hR hA hS hl
  subst hv
  obtain ⟨j, hj⟩ := List.getElem?_of_mem ((a_L_mem (z0 :: some (.int x) :: r) 0 (1, .int x)).mpr ⟨1, rfl, rfl⟩)
  exact lv_iinc C.1 C.2.1 d hl hj rfl hn rfl (fun ls hl => k h n u hV H locs ls hz hu hR hA hS (a_set (L := (z0 :: some (.int x) :: r)) (i := 1) (a_hc (i := 0) rfl hc) hl))
theorem a_iinc_2 (C : Cx G p l s m args meth c A y cc nL rt) {x : Int32} {N : Int} {v : Int32} {z0 z1 : Option Value} {r : List (Option Value)} (d : decode cc pc = .ok (.iinc 2 N, 3)) (hv : Int32.ofInt N = v) (hn : 2 < nL) (hc : a_c1 z1 = true) (k : AW G p l e R s m args below meth c A nL Q V (pc + 3) (z0 :: z1 :: some (.int (x + v)) :: r) st) : AW G p l e R s m args below meth c A nL Q V pc (z0 :: z1 :: some (.int x) :: r) st := by
  intro h n u hV H locs ls hz hu hR hA hS hl
  subst hv
  obtain ⟨j, hj⟩ := List.getElem?_of_mem ((a_L_mem (z0 :: z1 :: some (.int x) :: r) 0 (2, .int x)).mpr ⟨2, rfl, rfl⟩)
  exact lv_iinc C.1 C.2.1 d hl hj rfl hn rfl (fun ls hl => k h n u hV H locs ls hz hu hR hA hS (a_set (L := (z0 :: z1 :: some (.int x) :: r)) (i := 2) (a_hc (i := 1) rfl hc) hl))
theorem a_iinc_3 (C : Cx G p l s m args meth c A y cc nL rt) {x : Int32} {N : Int} {v : Int32} {z0 z1 z2 : Option Value} {r : List (Option Value)} (d : decode cc pc = .ok (.iinc 3 N, 3)) (hv : Int32.ofInt N = v) (hn : 3 < nL) (hc : a_c1 z2 = true) (k : AW G p l e R s m args below meth c A nL Q V (pc + 3) (z0 :: z1 :: z2 :: some (.int (x + v)) :: r) st) : AW G p l e R s m args below meth c A nL Q V pc (z0 :: z1 :: z2 :: some (.int x) :: r) st := by
  intro h n u hV H locs ls hz hu hR hA hS hl
  subst hv
  obtain ⟨j, hj⟩ := List.getElem?_of_mem ((a_L_mem (z0 :: z1 :: z2 :: some (.int x) :: r) 0 (3, .int x)).mpr ⟨3, rfl, rfl⟩)
  exact lv_iinc C.1 C.2.1 d hl hj rfl hn rfl (fun ls hl => k h n u hV H locs ls hz hu hR hA hS (a_set (L := (z0 :: z1 :: z2 :: some (.int x) :: r)) (i := 3) (a_hc (i := 2) rfl hc) hl))
theorem a_iinc_4 (C : Cx G p l s m args meth c A y cc nL rt) {x : Int32} {N : Int} {v : Int32} {z0 z1 z2 z3 : Option Value} {r : List (Option Value)} (d : decode cc pc = .ok (.iinc 4 N, 3)) (hv : Int32.ofInt N = v) (hn : 4 < nL) (hc : a_c1 z3 = true) (k : AW G p l e R s m args below meth c A nL Q V (pc + 3) (z0 :: z1 :: z2 :: z3 :: some (.int (x + v)) :: r) st) : AW G p l e R s m args below meth c A nL Q V pc (z0 :: z1 :: z2 :: z3 :: some (.int x) :: r) st := by
  intro h n u hV H locs ls hz hu hR hA hS hl
  subst hv
  obtain ⟨j, hj⟩ := List.getElem?_of_mem ((a_L_mem (z0 :: z1 :: z2 :: z3 :: some (.int x) :: r) 0 (4, .int x)).mpr ⟨4, rfl, rfl⟩)
  exact lv_iinc C.1 C.2.1 d hl hj rfl hn rfl (fun ls hl => k h n u hV H locs ls hz hu hR hA hS (a_set (L := (z0 :: z1 :: z2 :: z3 :: some (.int x) :: r)) (i := 4) (a_hc (i := 3) rfl hc) hl))
theorem a_iinc_5 (C : Cx G p l s m args meth c A y cc nL rt) {x : Int32} {N : Int} {v : Int32} {z0 z1 z2 z3 z4 : Option Value} {r : List (Option Value)} (d : decode cc pc = .ok (.iinc 5 N, 3)) (hv : Int32.ofInt N = v) (hn : 5 < nL) (hc : a_c1 z4 = true) (k : AW G p l e R s m args below meth c A nL Q V (pc + 3) (z0 :: z1 :: z2 :: z3 :: z4 :: some (.int (x + v)) :: r) st) : AW G p l e R s m args below meth c A nL Q V pc (z0 :: z1 :: z2 :: z3 :: z4 :: some (.int x) :: r) st := by
  intro h n u hV H locs ls hz hu hR hA hS hl
  subst hv
  obtain ⟨j, hj⟩ := List.getElem?_of_mem ((a_L_mem (z0 :: z1 :: z2 :: z3 :: z4 :: some (.int x) :: r) 0 (5, .int x)).mpr ⟨5, rfl, rfl⟩)
  exact lv_iinc C.1 C.2.1 d hl hj rfl hn rfl (fun ls hl => k h n u hV H locs ls hz hu hR hA hS (a_set (L := (z0 :: z1 :: z2 :: z3 :: z4 :: some (.int x) :: r)) (i := 5) (a_hc (i := 4) rfl hc) hl))
theorem a_iinc_6 (C : Cx G p l s m args meth c A y cc nL rt) {x : Int32} {N : Int} {v : Int32} {z0 z1 z2 z3 z4 z5 : Option Value} {r : List (Option Value)} (d : decode cc pc = .ok (.iinc 6 N, 3)) (hv : Int32.ofInt N = v) (hn : 6 < nL) (hc : a_c1 z5 = true) (k : AW G p l e R s m args below meth c A nL Q V (pc + 3) (z0 :: z1 :: z2 :: z3 :: z4 :: z5 :: some (.int (x + v)) :: r) st) : AW G p l e R s m args below meth c A nL Q V pc (z0 :: z1 :: z2 :: z3 :: z4 :: z5 :: some (.int x) :: r) st := by
  intro h n u hV H locs ls hz hu hR hA hS hl
  subst hv
  obtain ⟨j, hj⟩ := List.getElem?_of_mem ((a_L_mem (z0 :: z1 :: z2 :: z3 :: z4 :: z5 :: some (.int x) :: r) 0 (6, .int x)).mpr ⟨6, rfl, rfl⟩)
  exact lv_iinc C.1 C.2.1 d hl hj rfl hn rfl (fun ls hl => k h n u hV H locs ls hz hu hR hA hS (a_set (L := (z0 :: z1 :: z2 :: z3 :: z4 :: z5 :: some (.int x) :: r)) (i := 6) (a_hc (i := 5) rfl hc) hl))
theorem a_iinc_7 (C : Cx G p l s m args meth c A y cc nL rt) {x : Int32} {N : Int} {v : Int32} {z0 z1 z2 z3 z4 z5 z6 : Option Value} {r : List (Option Value)} (d : decode cc pc = .ok (.iinc 7 N, 3)) (hv : Int32.ofInt N = v) (hn : 7 < nL) (hc : a_c1 z6 = true) (k : AW G p l e R s m args below meth c A nL Q V (pc + 3) (z0 :: z1 :: z2 :: z3 :: z4 :: z5 :: z6 :: some (.int (x + v)) :: r) st) : AW G p l e R s m args below meth c A nL Q V pc (z0 :: z1 :: z2 :: z3 :: z4 :: z5 :: z6 :: some (.int x) :: r) st := by
  intro h n u hV H locs ls hz hu hR hA hS hl
  subst hv
  obtain ⟨j, hj⟩ := List.getElem?_of_mem ((a_L_mem (z0 :: z1 :: z2 :: z3 :: z4 :: z5 :: z6 :: some (.int x) :: r) 0 (7, .int x)).mpr ⟨7, rfl, rfl⟩)
  exact lv_iinc C.1 C.2.1 d hl hj rfl hn rfl (fun ls hl => k h n u hV H locs ls hz hu hR hA hS (a_set (L := (z0 :: z1 :: z2 :: z3 :: z4 :: z5 :: z6 :: some (.int x) :: r)) (i := 7) (a_hc (i := 6) rfl hc) hl))
theorem a_iinc_8 (C : Cx G p l s m args meth c A y cc nL rt) {x : Int32} {N : Int} {v : Int32} {z0 z1 z2 z3 z4 z5 z6 z7 : Option Value} {r : List (Option Value)} (d : decode cc pc = .ok (.iinc 8 N, 3)) (hv : Int32.ofInt N = v) (hn : 8 < nL) (hc : a_c1 z7 = true) (k : AW G p l e R s m args below meth c A nL Q V (pc + 3) (z0 :: z1 :: z2 :: z3 :: z4 :: z5 :: z6 :: z7 :: some (.int (x + v)) :: r) st) : AW G p l e R s m args below meth c A nL Q V pc (z0 :: z1 :: z2 :: z3 :: z4 :: z5 :: z6 :: z7 :: some (.int x) :: r) st := by
  intro h n u hV H locs ls hz hu hR hA hS hl
  subst hv
  obtain ⟨j, hj⟩ := List.getElem?_of_mem ((a_L_mem (z0 :: z1 :: z2 :: z3 :: z4 :: z5 :: z6 :: z7 :: some (.int x) :: r) 0 (8, .int x)).mpr ⟨8, rfl, rfl⟩)
  exact lv_iinc C.1 C.2.1 d hl hj rfl hn rfl (fun ls hl => k h n u hV H locs ls hz hu hR hA hS (a_set (L := (z0 :: z1 :: z2 :: z3 :: z4 :: z5 :: z6 :: z7 :: some (.int x) :: r)) (i := 8) (a_hc (i := 7) rfl hc) hl))
theorem a_iinc_9 (C : Cx G p l s m args meth c A y cc nL rt) {x : Int32} {N : Int} {v : Int32} {z0 z1 z2 z3 z4 z5 z6 z7 z8 : Option Value} {r : List (Option Value)} (d : decode cc pc = .ok (.iinc 9 N, 3)) (hv : Int32.ofInt N = v) (hn : 9 < nL) (hc : a_c1 z8 = true) (k : AW G p l e R s m args below meth c A nL Q V (pc + 3) (z0 :: z1 :: z2 :: z3 :: z4 :: z5 :: z6 :: z7 :: z8 :: some (.int (x + v)) :: r) st) : AW G p l e R s m args below meth c A nL Q V pc (z0 :: z1 :: z2 :: z3 :: z4 :: z5 :: z6 :: z7 :: z8 :: some (.int x) :: r) st := by
  intro h n u hV H locs ls hz hu hR hA hS hl
  subst hv
  obtain ⟨j, hj⟩ := List.getElem?_of_mem ((a_L_mem (z0 :: z1 :: z2 :: z3 :: z4 :: z5 :: z6 :: z7 :: z8 :: some (.int x) :: r) 0 (9, .int x)).mpr ⟨9, rfl, rfl⟩)
  exact lv_iinc C.1 C.2.1 d hl hj rfl hn rfl (fun ls hl => k h n u hV H locs ls hz hu hR hA hS (a_set (L := (z0 :: z1 :: z2 :: z3 :: z4 :: z5 :: z6 :: z7 :: z8 :: some (.int x) :: r)) (i := 9) (a_hc (i := 8) rfl hc) hl))
theorem a_iinc_10 (C : Cx G p l s m args meth c A y cc nL rt) {x : Int32} {N : Int} {v : Int32} {z0 z1 z2 z3 z4 z5 z6 z7 z8 z9 : Option Value} {r : List (Option Value)} (d : decode cc pc = .ok (.iinc 10 N, 3)) (hv : Int32.ofInt N = v) (hn : 10 < nL) (hc : a_c1 z9 = true) (k : AW G p l e R s m args below meth c A nL Q V (pc + 3) (z0 :: z1 :: z2 :: z3 :: z4 :: z5 :: z6 :: z7 :: z8 :: z9 :: some (.int (x + v)) :: r) st) : AW G p l e R s m args below meth c A nL Q V pc (z0 :: z1 :: z2 :: z3 :: z4 :: z5 :: z6 :: z7 :: z8 :: z9 :: some (.int x) :: r) st := by
  intro h n u hV H locs ls hz hu hR hA hS hl
  subst hv
  obtain ⟨j, hj⟩ := List.getElem?_of_mem ((a_L_mem (z0 :: z1 :: z2 :: z3 :: z4 :: z5 :: z6 :: z7 :: z8 :: z9 :: some (.int x) :: r) 0 (10, .int x)).mpr ⟨10, rfl, rfl⟩)
  exact lv_iinc C.1 C.2.1 d hl hj rfl hn rfl (fun ls hl => k h n u hV H locs ls hz hu hR hA hS (a_set (L := (z0 :: z1 :: z2 :: z3 :: z4 :: z5 :: z6 :: z7 :: z8 :: z9 :: some (.int x) :: r)) (i := 10) (a_hc (i := 9) rfl hc) hl))
theorem a_iinc_11 (C : Cx G p l s m args meth c A y cc nL rt) {x : Int32} {N : Int} {v : Int32} {z0 z1 z2 z3 z4 z5 z6 z7 z8 z9 z10 : Option Value} {r : List (Option Value)} (d : decode cc pc = .ok (.iinc 11 N, 3)) (hv : Int32.ofInt N = v) (hn : 11 < nL) (hc : a_c1 z10 = true) (k : AW G p l e R s m args below meth c A nL Q V (pc + 3) (z0 :: z1 :: z2 :: z3 :: z4 :: z5 :: z6 :: z7 :: z8 :: z9 :: z10 :: some (.int (x + v)) :: r) st) : AW G p l e R s m args below meth c A nL Q V pc (z0 :: z1 :: z2 :: z3 :: z4 :: z5 :: z6 :: z7 :: z8 :: z9 :: z10 :: some (.int x) :: r) st := by
  intro h n u hV H locs ls hz hu hR hA hS hl
  subst hv
  obtain ⟨j, hj⟩ := List.getElem?_of_mem ((a_L_mem (z0 :: z1 :: z2 :: z3 :: z4 :: z5 :: z6 :: z7 :: z8 :: z9 :: z10 :: some (.int x) :: r) 0 (11, .int x)).mpr ⟨11, rfl, rfl⟩)
  exact lv_iinc C.1 C.2.1 d hl hj rfl hn rfl (fun ls hl => k h n u hV H locs ls hz hu hR hA hS (a_set (L := (z0 :: z1 :: z2 :: z3 :: z4 :: z5 :: z6 :: z7 :: z8 :: z9 :: z10 :: some (.int x) :: r)) (i := 11) (a_hc (i := 10) rfl hc) hl))
theorem a_iinc_12 (C : Cx G p l s m args meth c A y cc nL rt) {x : Int32} {N : Int} {v : Int32} {z0 z1 z2 z3 z4 z5 z6 z7 z8 z9 z10 z11 : Option Value} {r : List (Option Value)} (d : decode cc pc = .ok (.iinc 12 N, 3)) (hv : Int32.ofInt N = v) (hn : 12 < nL) (hc : a_c1 z11 = true) (k : AW G p l e R s m args below meth c A nL Q V (pc + 3) (z0 :: z1 :: z2 :: z3 :: z4 :: z5 :: z6 :: z7 :: z8 :: z9 :: z10 :: z11 :: some (.int (x + v)) :: r) st) : AW G p l e R s m args below meth c A nL Q V pc (z0 :: z1 :: z2 :: z3 :: z4 :: z5 :: z6 :: z7 :: z8 :: z9 :: z10 :: z11 :: some (.int x) :: r) st := by
  intro h n u hV H locs ls hz hu hR hA hS hl
  subst hv
  obtain ⟨j, hj⟩ := List.getElem?_of_mem ((a_L_mem (z0 :: z1 :: z2 :: z3 :: z4 :: z5 :: z6 :: z7 :: z8 :: z9 :: z10 :: z11 :: some (.int x) :: r) 0 (12, .int x)).mpr ⟨12, rfl, rfl⟩)
  exact lv_iinc C.1 C.2.1 d hl hj rfl hn rfl (fun ls hl => k h n u hV H locs ls hz hu hR hA hS (a_set (L := (z0 :: z1 :: z2 :: z3 :: z4 :: z5 :: z6 :: z7 :: z8 :: z9 :: z10 :: z11 :: some (.int x) :: r)) (i := 12) (a_hc (i := 11) rfl hc) hl))
theorem a_iinc_13 (C : Cx G p l s m args meth c A y cc nL rt) {x : Int32} {N : Int} {v : Int32} {z0 z1 z2 z3 z4 z5 z6 z7 z8 z9 z10 z11 z12 : Option Value} {r : List (Option Value)} (d : decode cc pc = .ok (.iinc 13 N, 3)) (hv : Int32.ofInt N = v) (hn : 13 < nL) (hc : a_c1 z12 = true) (k : AW G p l e R s m args below meth c A nL Q V (pc + 3) (z0 :: z1 :: z2 :: z3 :: z4 :: z5 :: z6 :: z7 :: z8 :: z9 :: z10 :: z11 :: z12 :: some (.int (x + v)) :: r) st) : AW G p l e R s m args below meth c A nL Q V pc (z0 :: z1 :: z2 :: z3 :: z4 :: z5 :: z6 :: z7 :: z8 :: z9 :: z10 :: z11 :: z12 :: some (.int x) :: r) st := by
  intro h n u hV H locs ls hz hu hR hA hS hl
  subst hv
  obtain ⟨j, hj⟩ := List.getElem?_of_mem ((a_L_mem (z0 :: z1 :: z2 :: z3 :: z4 :: z5 :: z6 :: z7 :: z8 :: z9 :: z10 :: z11 :: z12 :: some (.int x) :: r) 0 (13, .int x)).mpr ⟨13, rfl, rfl⟩)
  exact lv_iinc C.1 C.2.1 d hl hj rfl hn rfl (fun ls hl => k h n u hV H locs ls hz hu hR hA hS (a_set (L := (z0 :: z1 :: z2 :: z3 :: z4 :: z5 :: z6 :: z7 :: z8 :: z9 :: z10 :: z11 :: z12 :: some (.int x) :: r)) (i := 13) (a_hc (i := 12) rfl hc) hl))
theorem a_weak {L1 : List (Option Value)} (hL : a_le L1 L) (k : AW G p l e R s m args below meth c A nL Q V pc L1 st) : AW G p l e R s m args below meth c A nL Q V pc L st :=
  fun h n u hV H locs ls hz hu hR hA hS hl => k h n u hV H locs ls hz hu hR hA hS (hL.has hl)
theorem a_world {V1 : aWd} (hV : ∀ h n u, V h n u → V1 h n u) (k : AW G p l e R s m args below meth c A nL Q V1 pc L st) : AW G p l e R s m args below meth c A nL Q V pc L st :=
  fun h n u q => k h n u (hV h n u q)
theorem a_open (k : ∀ h n u, V h n u → AW G p l e R s m args below meth c A nL Q (fun h1 n1 u1 => h1 = h ∧ n1 = n ∧ u1 = u) pc L st) : AW G p l e R s m args below meth c A nL Q V pc L st :=
  fun h n u q => k h n u q h n u ⟨rfl, rfl, rfl⟩
theorem a_topi {x : Int32} (k : ∀ z : Int32, z = x → AW G p l e R s m args below meth c A nL Q V pc L (.int z :: st)) : AW G p l e R s m args below meth c A nL Q V pc L (.int x :: st) := k x rfl
theorem a_sized (k : ∀ h n u, V h n u → s.heap.size ≤ n → slT s.heap ≤ u → AW G p l e R s m args below meth c A nL Q (fun h1 n1 u1 => h1 = h ∧ n1 = n ∧ u1 = u) pc L st) : AW G p l e R s m args below meth c A nL Q V pc L st := by
  intro h n u hV H locs ls hz hu hR hA hS hl
  refine W_sized fun a1 a2 a3 a4 => ?_
  exact k h n u hV (by rw [← hz]; exact a1) (by rw [← hu]; exact a3) h n u ⟨rfl, rfl, rfl⟩ H locs ls hz hu hR hA hS hl
end ARows
