set_option maxRecDepth 100000
/-! THE LAW: from its beginning to its end, in the claim's room -/
theorem W_room {p : Program} {l : Launch} {e : Env} {R R' : Room} {s : State} {m : MethodId} {args : Array Value} {below : List Frame} {meth : Method} {c : Code} {H : Heap} {locs : List Loc} {cells slots : Nat} {Q : State → Prop} {g : JFrame} (h1 : R'.frames ≤ R.frames) (h2 : R'.cells ≤ R.cells) (h3 : R'.slots ≤ R.slots) (h4 : R'.locals ≤ R.locals) (k : W p l e R' s m args below meth c H locs cells slots Q g) : W p l e R s m args below meth c H locs cells slots Q g := by
  intro T hT X
  refine k T hT { X with room := ?_ }
  have h := X.room
  unfold State.hasRoom at h ⊢
  simp only [Bool.and_eq_true, decide_eq_true_eq] at h ⊢
  obtain ⟨⟨⟨⟨a1, b1, b2, b3, b4, b5⟩, a3⟩, a4⟩, a5⟩ := h
  exact ⟨⟨⟨⟨by omega, by omega, by omega, by omega, by omega, b5⟩, by omega⟩, by omega⟩, a5⟩
theorem law_ret {G : aG} {p : Program} {l : Launch} {e : Env} {R : Room} {s : State} {m : MethodId} {args : Array Value} {below : List Frame} {meth : Method} {c : Code} {nm : String} {V : aWd} {L : List (Option Value)} (C : Cx G p l s m args meth c (a_A (fun _ => none) s.heap.size) (yL nm) cL_law 9 ret) (hV : ∀ h n u, V h n u → n ≤ s.heap.size + 120000 ∧ u ≤ slT s.heap + 1200000) : AW G p l e R s m args below meth c (a_A (fun _ => none) s.heap.size) 9 (lw_Z below args s) V 2834 L [.int 1] := by
  intro h n u hVV H locs ls hz hu hR hA hS hl
  obtain ⟨r1, r2⟩ := hV h n u hVV
  refine va_forget (fun q hq => ?_) ?_
  · rcases hS.2.2 q hq with z | z
    · exact absurd rfl z
    · exact z
  refine W.widen (k := 1200144) (n := 5496826) (by omega) (by omega) ?_
  intro T hT X
  have hr := C.ret
  have hb := C.2.1
  have hx := C.exec
  obtain ⟨fs, hret, hrun, hended, hW, hframe⟩ := X.leave (v := some (.int 1)) (hlocks := C.locks) (fun h => by rw [hr] at h; cases h)
  have hmeth' : T.vm.method? m = some meth := X.method'
  refine ⟨T.setFrames fs, ?_, .returned (some (.int 1)), hrun, hended, rfl, ⟨_, rfl⟩, hW, hframe⟩
  jvm_step X.here [X.here.top, hx, hb, dL_law_2834, hmeth', hr, ret, narrow_b1]
  (try refine ⟨rfl, ?_⟩); (try refine ⟨rfl, ?_⟩)
  first | (intro acts; rw [hret _ acts rfl rfl rfl]) | rw [hret _ _ rfl rfl rfl]
  exact Steps.refl _
def KL0 : Nat := 120000
def σ00 : OS := (fun _ => none, fun _ => none, KL0, 0, [])
/-- what is owed in plain Lean -/
def wp_whole (G : aG) (xs : Nat → Int32) (L9 : Nat) : Prop := wp_lawStart σ00 (fun x mo out σ1 => ∃ μ, oModel σ1 mo μ ∧ wp_law G xs L9 x out mF 0 (oMf σ1 mo, μ))
theorem law_all {G : aG} {p : Program} {l : Launch} {e : Env} {s : State} {m : MethodId} {below : List Frame} {meth : Method} {c : Code} {nm : String} {b L9 : Nat} {xs : Nat → Int32} (C : Cx G p l s m #[.ref b] meth c (a_A (fun _ => none) s.heap.size) (yL nm) cL_law 9 ret) (hX : va_X b L9 xs s s.heap) (hb : b < s.heap.size) (hw : wp_whole G xs L9) : W p l e room_1 s m #[.ref b] below meth c s.heap [] 0 0 (lw_Z below #[.ref b] s) (entryFrame m ([.ref b] : List Value).toArray 9) := by
  refine W_room (R' := aRm 200 KL0 (10 * KL0)) (by decide) (by decide) (by decide) (by decide) ?_
  have hs : s.heap.size = s.heap.size ∧ slT s.heap = slT s.heap := ⟨rfl, rfl⟩
  have hbA : ¬ a_A (fun _ => none) s.heap.size b := by rintro (z | z); exact z rfl; omega
  have hend : ∀ (x mo out : Nat) (i : Int32) (s0 : LWS), AW G p l e (aRm 200 KL0 (10 * KL0)) s m #[.ref b] below meth c (a_A (fun _ => none) s.heap.size) 9 (lw_Z below #[.ref b] s) (LW s.heap.size (slT s.heap) KL0 mo s0.1 s0.2) 2833 [some (.ref b), some (.ref x), some (.ref mo), some (.ref out), some (.int i), none, none, none, none] [] := by
    intro x mo out i s0
    refine a_iconst (pc := 2833) C dL_law_2833 ic_1 ?_
    exact law_ret C (fun h n u hV => by
      obtain ⟨-, -, -, a1, a2, a3, a4⟩ := hV
      unfold KL0 at a3 a4
      omega)
  have hstart := law_start (below := below) (e := e) (Q := lw_Z below #[.ref b] s) (KL := KL0) (n0 := s.heap.size) (u0 := slT s.heap) (b := b) (h0 := fun _ => none) (E := fun _ => False) C hs σ00 (fun x mo out σ1 => ∃ μ, oModel σ1 mo μ ∧ wp_law G xs L9 x out mF 0 (oMf σ1 mo, μ)) (fun x mo out σ1 hK => by
    obtain ⟨μ, hM, hw⟩ := hK
    refine a_dom fun h n u hV hd => ?_
    exact a_world (V1 := LW s.heap.size (slT s.heap) KL0 mo (oMf σ1 mo) μ) (fun h' n' u' hI => by obtain ⟨rfl, rfl, rfl⟩ := hI; exact LW.start hM hd hV) (law_loop C hs hX hbA hb (fun i s0 => hend x mo out i s0) mF 0 (oMf σ1 mo, μ) hw)) hw
  have hl := lv_entry [.ref b] (n := 9) (Nat.le_of_ble_eq_true rfl)
  rw [lg_entry_eq]
  have hOV : OV (fun _ => none) (fun _ => False) σ00 := ⟨(fun q e h => by cases h), (fun a w h => by cases h), (fun a w h => by cases h), (fun a w z1 z2 h => by cases h), (fun q e h => by cases h), (fun q e h => by cases h), (fun b L h => by cases h)⟩
  have W0 := hstart (fun _ => none) s.heap.size (slT s.heap) ⟨hOV, Nat.le_refl _, Nat.le_refl _, Nat.le_refl _, Nat.le_refl _, fun _ h => h.elim, fun _ h => h.elim, fun z => absurd rfl z⟩ s.heap [] _ rfl rfl (fun a e h => by cases h) (fun a e h => by cases h) va_S.rf hl
  rw [Nat.sub_self, Nat.sub_self] at W0
  exact W0
