set_option maxRecDepth 100000
/-! THE LAW: its beginning -/
def wp_lawStart (σ : OS) (Kx : Nat → Nat → Nat → OS → Prop) : Prop := (1 ≤ σ.2.2.1 ∧ ∀ q1 : Nat, oFr σ q1 → (σ.2.2.2.1 ≠ 0 → q1 = σ.2.2.2.1) → ∀ σ2 : OS, σ2 = oNew σ q1 1 (.inr (0, [.null, .null, .null, .null])) → wp_X1_init q1 σ2 (fun σ3 => (1 ≤ σ3.2.2.1 ∧ ∀ q4 : Nat, oFr σ3 q4 → (σ3.2.2.2.1 ≠ 0 → q4 = σ3.2.2.2.1) → ∀ σ5 : OS, σ5 = oNew σ3 q4 1 (.inr (4, [.null, .null, .null, .int 0, .null, .int 0, .null, .int 0, .int 0])) → wp_X6_init q4 σ5 (fun σ6 => (1 ≤ σ6.2.2.1 ∧ ∀ q7 : Nat, oFr σ6 q7 → (σ6.2.2.2.1 ≠ 0 → q7 = σ6.2.2.2.1) → ∀ σ8 : OS, σ8 = oNew σ6 q7 1 (.inl (1, 1, .inr (.inl (fun _ => 0)))) → (Kx q1 q4 q7 σ8))))))
set_option maxHeartbeats 4000000 in
theorem law_start {G : aG} {p : Program} {l : Launch} {e : Env} {s : State} {m : MethodId} {args : Array Value} {below : List Frame} {meth : Method} {c : Code} {A : Nat → Prop} {rt : Option FieldType} {Q : State → Prop} {nm : String} {KL n0 u0 b : Nat} {h0 : AH} {E : Nat → Prop} (C : Cx G p l s m args meth c A (yL nm) cL_law 9 rt) (hs : s.heap.size = n0 ∧ slT s.heap = u0) (σ : OS) (Kx : Nat → Nat → Nat → OS → Prop) (hKx : ∀ x mo out σ1, Kx x mo out σ1 → AW G p l e (aRm 200 KL (10 * KL)) s m args below meth c A 9 Q (OW h0 n0 u0 E KL σ1) 23 [some (.ref b), some (.ref x), some (.ref mo), some (.ref out), some (.int 0), none, none, none, none] []) (hw : wp_lawStart σ Kx) : AW G p l e (aRm 200 KL (10 * KL)) s m args below meth c A 9 Q (OW h0 n0 u0 E KL σ) 0 [some (.ref b), none, none, none, none, none, none, none, none] [] := by
  unfold wp_lawStart at hw
  refine o_newC (pc := 0) C hs 1 in_X1 tyX1 tyX1_ok q101 q102 q65 (ci := 0) (fs := [.null, .null, .null, .null]) rfl (by decide) (fun f z => by cases z) (by decide) (by decide) hw.1 dL_law_0 (fun q1 frq1 nxq1 σ2 eσ2 => ?_)
  have hw := hw.2 q1 frq1 nxq1 σ2 eσ2
  refine a_dup (pc := 3) C dL_law_3 rfl ?_
  refine o_callIv (pc := 4) C hs [] (b := q1) (st := [.ref q1]) (fun h n u hB => ct_X1_init l G q1 E _ _ hw h n u hB) (by decide) (by decide) q65 q103 q104 rfl (lw_meth q105) sg_X1_init (Nat.le_of_ble_eq_true rfl) dL_law_4 (fun σ3 hw => ?_)
  refine a_astore_1 (pc := 7) C dL_law_7 (by decide) rfl ?_
  refine o_newC (pc := 8) C hs 1 in_X6 tyX6 tyX6_ok q1752 q1753 q77 (ci := 4) (fs := [.null, .null, .null, .int 0, .null, .int 0, .null, .int 0, .int 0]) rfl (by decide) (fun f z => by cases z) (by decide) (by decide) hw.1 dL_law_8 (fun q4 frq4 nxq4 σ5 eσ5 => ?_)
  have hw := hw.2 q4 frq4 nxq4 σ5 eσ5
  refine a_dup (pc := 11) C dL_law_11 rfl ?_
  refine o_callIv (pc := 12) C hs [] (b := q4) (st := [.ref q4]) (fun h n u hB => ct_X6_init l G q4 E _ _ hw h n u hB) (by decide) (by decide) q77 q1754 q1755 rfl (lw_meth q1756) sg_X6_init (Nat.le_of_ble_eq_true rfl) dL_law_12 (fun σ6 hw => ?_)
  refine a_astore_2 (pc := 15) C dL_law_15 (by decide) rfl ?_
  refine a_iconst (pc := 16) C dL_law_16 ic_1 ?_
  refine o_newA (pc := 17) C hs 1 (ty := .long) (kd := 1) (a0 := (1, .inr (.inl (fun _ => 0)))) rfl rfl q2189 (fun _ => rfl) (fun cA => rfl) (by decide) (by decide) (by decide) (by decide) (by decide) hw.1 dL_law_17 (fun q7 frq7 nxq7 σ8 eσ8 => ?_)
  have hw := hw.2 q7 frq7 nxq7 σ8 eσ8
  refine a_astore_3 (pc := 19) C dL_law_19 (by decide) rfl ?_
  refine a_iconst (pc := 20) C dL_law_20 ic_0 ?_
  refine a_istore_4 (pc := 21) C dL_law_21 (by decide) rfl ?_
  exact hKx q1 q4 q7 σ8 hw
/-- the model's cells, one by one; taken as the model -/
def oModel (σ : OS) (mo : Nat) (μ : MS) : Prop := σ.1 mo = some (mObj mo μ) ∧ (∀ b, b < 5 → σ.1 (mo + 1 + b) = some (.inl (0, mLen b, .inl (μ b)))) ∧ (μ 5 1 = 0 ∨ μ 5 1 = 1)
def oMf (σ : OS) (mo : Nat) : OS := ((fun q => if mo ≤ q ∧ q < mo + 6 then none else σ.1 q), σ.2.1, σ.2.2.1, 0, σ.2.2.2.2)
theorem LW.start {h0 : AH} {n0 u0 K mo : Nat} {σ : OS} {μ : MS} {h : AH} {n u : Nat} (hM : oModel σ mo μ) (hd : ∀ x f, h x = some f → x < n) (hV : OW h0 n0 u0 (fun _ => False) K σ h n u) : LW n0 u0 K mo (oMf σ mo) μ h n u := by
  obtain ⟨e1, e2, e3⟩ := hM
  obtain ⟨⟨g1, g2, g3, g4, g5, g6, gB⟩, r1, r2, r3, r4, r5, r6, r7⟩ := hV
  have hcell : ∀ q, lE mo q → ∃ e, σ.1 q = some e := by
    intro q hq
    unfold lE at hq
    by_cases z0 : q = mo
    · subst z0; exact ⟨_, e1⟩
    · have := e2 (q - (mo + 1)) (by omega)
      rw [show mo + 1 + (q - (mo + 1)) = q by omega] at this
      exact ⟨_, this⟩
  have hsub : ∀ q e, (oMf σ mo).1 q = some e → ¬ lE mo q ∧ σ.1 q = some e := by
    intro q e hq
    have hq : (if mo ≤ q ∧ q < mo + 6 then none else σ.1 q) = some e := hq
    by_cases z : mo ≤ q ∧ q < mo + 6
    · rw [if_pos z] at hq; cases hq
    · rw [if_neg z] at hq; exact ⟨z, hq⟩
  have hlast := hd _ _ (g1 _ _ (e2 4 (by decide)))
  refine ⟨⟨fun q e hq => g1 _ _ (hsub q e hq).2, g2, fun a w hw q hq => ?_, g4, fun q e hq => (hsub q e hq).1, fun q e hq => g6 _ _ (hsub q e hq).2, gB⟩, ⟨g1 _ _ e1, fun b hb => g1 _ _ (e2 b hb), e3⟩, by omega, r1, r2, r3, r4⟩
  rcases hq with ⟨e, he⟩ | hE
  · exact g3 a w hw q (Or.inl ⟨e, (hsub q e he).2⟩)
  · exact g3 a w hw q (Or.inl (hcell q hE))
