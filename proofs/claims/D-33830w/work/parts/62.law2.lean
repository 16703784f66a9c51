set_option maxRecDepth 100000
/-! THE LAW: its loop -/
def wp_law (G : aG) (xs : Nat → Int32) (L9 x out : Nat) : Nat → Int32 → LWS → Prop
  | 0, _, _ => False
  | F + 1, i, s0 => Int32.ofNat L9 - 3 < i ∨ (¬ Int32.ofNat L9 - 3 < i ∧ vp_in i L9 ∧ ∀ v : Int32, v = xs i.toNatClampNeg &&& 63 → (v = 0 → wp_law_0 G xs L9 x out i s0 (fun s1 => wp_law G xs L9 x out F (i + 3) s1)) ∧ (v = 1 → wp_law_1 G xs L9 x out i s0 (fun s1 => wp_law G xs L9 x out F (i + 3) s1)) ∧ (v = 2 → wp_law_2 G xs L9 x out i s0 (fun s1 => wp_law G xs L9 x out F (i + 3) s1)) ∧ (v = 3 → wp_law_3 G xs L9 x out i s0 (fun s1 => wp_law G xs L9 x out F (i + 3) s1)) ∧ (v = 4 → wp_law_4 G xs L9 x out i s0 (fun s1 => wp_law G xs L9 x out F (i + 3) s1)) ∧ (v = 5 → wp_law_5 G xs L9 x out i s0 (fun s1 => wp_law G xs L9 x out F (i + 3) s1)) ∧ (v = 6 → wp_law_6 G xs L9 x out i s0 (fun s1 => wp_law G xs L9 x out F (i + 3) s1)) ∧ (v = 7 → wp_law_7 G xs L9 x out i s0 (fun s1 => wp_law G xs L9 x out F (i + 3) s1)) ∧ (v = 8 → wp_law_8 G xs L9 x out i s0 (fun s1 => wp_law G xs L9 x out F (i + 3) s1)) ∧ (v = 9 → wp_law_9 G xs L9 x out i s0 (fun s1 => wp_law G xs L9 x out F (i + 3) s1)) ∧ (v = 10 → wp_law_10 G xs L9 x out i s0 (fun s1 => wp_law G xs L9 x out F (i + 3) s1)) ∧ (v = 11 → wp_law_11 G xs L9 x out i s0 (fun s1 => wp_law G xs L9 x out F (i + 3) s1)) ∧ (v = 12 → wp_law_12 G xs L9 x out i s0 (fun s1 => wp_law G xs L9 x out F (i + 3) s1)) ∧ (v = 13 → wp_law_13 G xs L9 x out i s0 (fun s1 => wp_law G xs L9 x out F (i + 3) s1)) ∧ (v = 14 → wp_law_14 G xs L9 x out i s0 (fun s1 => wp_law G xs L9 x out F (i + 3) s1)) ∧ (v = 15 → wp_law_15 G xs L9 x out i s0 (fun s1 => wp_law G xs L9 x out F (i + 3) s1)) ∧ (v = 16 → wp_law_16 G xs L9 x out i s0 (fun s1 => wp_law G xs L9 x out F (i + 3) s1)) ∧ (v = 17 → wp_law_17 G xs L9 x out i s0 (fun s1 => wp_law G xs L9 x out F (i + 3) s1)) ∧ (v = 18 → wp_law_18 G xs L9 x out i s0 (fun s1 => wp_law G xs L9 x out F (i + 3) s1)) ∧ (v = 19 → wp_law_19 G xs L9 x out i s0 (fun s1 => wp_law G xs L9 x out F (i + 3) s1)) ∧ (v = 20 → wp_law_20 G xs L9 x out i s0 (fun s1 => wp_law G xs L9 x out F (i + 3) s1)) ∧ (v = 21 → wp_law_21 G xs L9 x out i s0 (fun s1 => wp_law G xs L9 x out F (i + 3) s1)) ∧ (v = 22 → wp_law_22 G xs L9 x out i s0 (fun s1 => wp_law G xs L9 x out F (i + 3) s1)) ∧ (v = 23 → wp_law_23 G xs L9 x out i s0 (fun s1 => wp_law G xs L9 x out F (i + 3) s1)) ∧ (v = 24 → wp_law_24 G xs L9 x out i s0 (fun s1 => wp_law G xs L9 x out F (i + 3) s1)) ∧ (v = 25 → wp_law_25 G xs L9 x out i s0 (fun s1 => wp_law G xs L9 x out F (i + 3) s1)) ∧ (v = 26 → wp_law_26 G xs L9 x out i s0 (fun s1 => wp_law G xs L9 x out F (i + 3) s1)) ∧ (v = 27 → wp_law_27 G xs L9 x out i s0 (fun s1 => wp_law G xs L9 x out F (i + 3) s1)) ∧ (v = 28 → wp_law_28 G xs L9 x out i s0 (fun s1 => wp_law G xs L9 x out F (i + 3) s1)) ∧ (v = 29 → wp_law_29 G xs L9 x out i s0 (fun s1 => wp_law G xs L9 x out F (i + 3) s1)) ∧ (v = 30 → wp_law_30 G xs L9 x out i s0 (fun s1 => wp_law G xs L9 x out F (i + 3) s1)) ∧ (v = 31 → wp_law_31 G xs L9 x out i s0 (fun s1 => wp_law G xs L9 x out F (i + 3) s1)) ∧ (v = 32 → wp_law_32 G xs L9 x out i s0 (fun s1 => wp_law G xs L9 x out F (i + 3) s1)) ∧ (v = 33 → wp_law_33 G xs L9 x out i s0 (fun s1 => wp_law G xs L9 x out F (i + 3) s1)) ∧ (v = 34 → wp_law_34 G xs L9 x out i s0 (fun s1 => wp_law G xs L9 x out F (i + 3) s1)) ∧ (v = 35 → wp_law_35 G xs L9 x out i s0 (fun s1 => wp_law G xs L9 x out F (i + 3) s1)) ∧ (v = 36 → wp_law_36 G xs L9 x out i s0 (fun s1 => wp_law G xs L9 x out F (i + 3) s1)) ∧ (v = 37 → wp_law_37 G xs L9 x out i s0 (fun s1 => wp_law G xs L9 x out F (i + 3) s1)) ∧ (v = 38 → wp_law_38 G xs L9 x out i s0 (fun s1 => wp_law G xs L9 x out F (i + 3) s1)) ∧ (v = 39 → wp_law_39 G xs L9 x out i s0 (fun s1 => wp_law G xs L9 x out F (i + 3) s1)) ∧ (v = 40 → wp_law_40 G xs L9 x out i s0 (fun s1 => wp_law G xs L9 x out F (i + 3) s1)) ∧ (v = 41 → wp_law_41 G xs L9 x out i s0 (fun s1 => wp_law G xs L9 x out F (i + 3) s1)) ∧ (v = 42 → wp_law_42 G xs L9 x out i s0 (fun s1 => wp_law G xs L9 x out F (i + 3) s1)) ∧ (v = 43 → wp_law_43 G xs L9 x out i s0 (fun s1 => wp_law G xs L9 x out F (i + 3) s1)) ∧ (v = 44 → wp_law_44 G xs L9 x out i s0 (fun s1 => wp_law G xs L9 x out F (i + 3) s1)) ∧ (v = 45 → wp_law_45 G xs L9 x out i s0 (fun s1 => wp_law G xs L9 x out F (i + 3) s1)) ∧ (v = 46 → wp_law_46 G xs L9 x out i s0 (fun s1 => wp_law G xs L9 x out F (i + 3) s1)) ∧ (v = 47 → wp_law_47 G xs L9 x out i s0 (fun s1 => wp_law G xs L9 x out F (i + 3) s1)) ∧ (v = 48 → wp_law_48 G xs L9 x out i s0 (fun s1 => wp_law G xs L9 x out F (i + 3) s1)) ∧ (v = 49 → wp_law_49 G xs L9 x out i s0 (fun s1 => wp_law G xs L9 x out F (i + 3) s1)) ∧ (v = 50 → wp_law_50 G xs L9 x out i s0 (fun s1 => wp_law G xs L9 x out F (i + 3) s1)) ∧ (v = 51 → wp_law_51 G xs L9 x out i s0 (fun s1 => wp_law G xs L9 x out F (i + 3) s1)) ∧ (v = 52 → wp_law_52 G xs L9 x out i s0 (fun s1 => wp_law G xs L9 x out F (i + 3) s1)) ∧ (v = 53 → wp_law_53 G xs L9 x out i s0 (fun s1 => wp_law G xs L9 x out F (i + 3) s1)) ∧ (v = 54 → wp_law_54 G xs L9 x out i s0 (fun s1 => wp_law G xs L9 x out F (i + 3) s1)) ∧ (v = 55 → wp_law_55 G xs L9 x out i s0 (fun s1 => wp_law G xs L9 x out F (i + 3) s1)) ∧ (v = 56 → wp_law_56 G xs L9 x out i s0 (fun s1 => wp_law G xs L9 x out F (i + 3) s1)) ∧ (v = 57 → wp_law_57 G xs L9 x out i s0 (fun s1 => wp_law G xs L9 x out F (i + 3) s1)) ∧ (¬ v = 0 → ¬ v = 1 → ¬ v = 2 → ¬ v = 3 → ¬ v = 4 → ¬ v = 5 → ¬ v = 6 → ¬ v = 7 → ¬ v = 8 → ¬ v = 9 → ¬ v = 10 → ¬ v = 11 → ¬ v = 12 → ¬ v = 13 → ¬ v = 14 → ¬ v = 15 → ¬ v = 16 → ¬ v = 17 → ¬ v = 18 → ¬ v = 19 → ¬ v = 20 → ¬ v = 21 → ¬ v = 22 → ¬ v = 23 → ¬ v = 24 → ¬ v = 25 → ¬ v = 26 → ¬ v = 27 → ¬ v = 28 → ¬ v = 29 → ¬ v = 30 → ¬ v = 31 → ¬ v = 32 → ¬ v = 33 → ¬ v = 34 → ¬ v = 35 → ¬ v = 36 → ¬ v = 37 → ¬ v = 38 → ¬ v = 39 → ¬ v = 40 → ¬ v = 41 → ¬ v = 42 → ¬ v = 43 → ¬ v = 44 → ¬ v = 45 → ¬ v = 46 → ¬ v = 47 → ¬ v = 48 → ¬ v = 49 → ¬ v = 50 → ¬ v = 51 → ¬ v = 52 → ¬ v = 53 → ¬ v = 54 → ¬ v = 55 → ¬ v = 56 → ¬ v = 57 → wp_law G xs L9 x out F (i + 3) s0))
set_option maxHeartbeats 8000000 in
theorem law_loop {G : aG} {p : Program} {l : Launch} {e : Env} {s : State} {m : MethodId} {args : Array Value} {below : List Frame} {meth : Method} {c : Code} {A : Nat → Prop} {rt : Option FieldType} {Q : State → Prop} {nm : String} {KL n0 u0 mo b L9 x out : Nat} {xs : Nat → Int32} (C : Cx G p l s m args meth c A (yL nm) cL_law 9 rt) (hs : s.heap.size = n0 ∧ slT s.heap = u0) (hX : va_X b L9 xs s s.heap) (hbA : ¬ A b) (hb : b < s.heap.size) (hend : ∀ (i : Int32) (s0 : LWS), AW G p l e (aRm 200 KL (10 * KL)) s m args below meth c A 9 Q (LW n0 u0 KL mo s0.1 s0.2) 2833 [some (.ref b), some (.ref x), some (.ref mo), some (.ref out), some (.int i), none, none, none, none] []) : ∀ (F : Nat) (i : Int32) (s0 : LWS), wp_law G xs L9 x out F i s0 → AW G p l e (aRm 200 KL (10 * KL)) s m args below meth c A 9 Q (LW n0 u0 KL mo s0.1 s0.2) 23 [some (.ref b), some (.ref x), some (.ref mo), some (.ref out), some (.int i), none, none, none, none] [] := by
  intro F
  induction F with
  | zero => intro i s0 hw; exact False.elim hw
  | succ F ih =>
    intro i s0 hw
    rw [wp_law] at hw
    have back : ∀ s1 : LWS, wp_law G xs L9 x out F (i + 3) s1 → AW G p l e (aRm 200 KL (10 * KL)) s m args below meth c A 9 Q (LW n0 u0 KL mo s1.1 s1.2) 2827 [some (.ref b), some (.ref x), some (.ref mo), some (.ref out), some (.int i), none, none, none, none] [] := by
      intro s1 hw
      refine a_iinc_4 (pc := 2827) (v := 3) C dL_law_2827 (by decide) (by decide) rfl ?_
      refine a_goto (pc := 2830) C 23 dL_law_2830 (by decide) ?_
      exact ih (i + 3) s1 hw
    refine a_iload_4 (pc := 23) C dL_law_23 ?_
    refine a_aload_0 (pc := 25) C dL_law_25 ?_
    refine a_xlen (pc := 26) C hX hbA hb rfl dL_law_26 ?_
    refine a_iconst (pc := 27) C dL_law_27 ic_3 ?_
    refine a_isub (pc := 28) C dL_law_28 ?_
    refine a_icmp_gt (pc := 29) C 2833 dL_law_29 (by decide) (fun _ => hend i s0) (fun c0 => ?_)
    rcases hw with hw | ⟨-, hin, hw⟩
    · exact absurd hw c0
    refine a_aload_0 (pc := 32) C dL_law_32 ?_
    refine a_iload_4 (pc := 33) C dL_law_33 ?_
    refine a_xald (pc := 35) C hX hbA hin dL_law_35 ?_
    refine a_bipush (pc := 36) C dL_law_36 bc_63 ?_
    refine a_iand (pc := 38) C dL_law_38 ?_
    refine a_topi (fun v ev => ?_)
    have hw := hw v ev
    by_cases c_0 : v = 0
    · refine a_tableIn (pc := 39) C 284 dL_law_39 (by rw [c_0]; decide) (by rw [c_0]; decide) (by rw [c_0]; rfl) (by decide) ?_
      exact law_0 C hs hX hbA i s0 _ back (hw.1 c_0)
    replace hw := hw.2
    by_cases c_1 : v = 1
    · refine a_tableIn (pc := 39) C 340 dL_law_39 (by rw [c_1]; decide) (by rw [c_1]; decide) (by rw [c_1]; rfl) (by decide) ?_
      exact law_1 C hs hX hbA i s0 _ back (hw.1 c_1)
    replace hw := hw.2
    by_cases c_2 : v = 2
    · refine a_tableIn (pc := 39) C 396 dL_law_39 (by rw [c_2]; decide) (by rw [c_2]; decide) (by rw [c_2]; rfl) (by decide) ?_
      exact law_2 C hs hX hbA i s0 _ back (hw.1 c_2)
    replace hw := hw.2
    by_cases c_3 : v = 3
    · refine a_tableIn (pc := 39) C 464 dL_law_39 (by rw [c_3]; decide) (by rw [c_3]; decide) (by rw [c_3]; rfl) (by decide) ?_
      exact law_3 C hs hX hbA i s0 _ back (hw.1 c_3)
    replace hw := hw.2
    by_cases c_4 : v = 4
    · refine a_tableIn (pc := 39) C 520 dL_law_39 (by rw [c_4]; decide) (by rw [c_4]; decide) (by rw [c_4]; rfl) (by decide) ?_
      exact law_4 C hs hX hbA i s0 _ back (hw.1 c_4)
    replace hw := hw.2
    by_cases c_5 : v = 5
    · refine a_tableIn (pc := 39) C 576 dL_law_39 (by rw [c_5]; decide) (by rw [c_5]; decide) (by rw [c_5]; rfl) (by decide) ?_
      exact law_5 C hs hX hbA i s0 _ back (hw.1 c_5)
    replace hw := hw.2
    by_cases c_6 : v = 6
    · refine a_tableIn (pc := 39) C 620 dL_law_39 (by rw [c_6]; decide) (by rw [c_6]; decide) (by rw [c_6]; rfl) (by decide) ?_
      exact law_6 C hs hX hbA i s0 _ back (hw.1 c_6)
    replace hw := hw.2
    by_cases c_7 : v = 7
    · refine a_tableIn (pc := 39) C 676 dL_law_39 (by rw [c_7]; decide) (by rw [c_7]; decide) (by rw [c_7]; rfl) (by decide) ?_
      exact law_7 C hs hX hbA i s0 _ back (hw.1 c_7)
    replace hw := hw.2
    by_cases c_8 : v = 8
    · refine a_tableIn (pc := 39) C 744 dL_law_39 (by rw [c_8]; decide) (by rw [c_8]; decide) (by rw [c_8]; rfl) (by decide) ?_
      exact law_8 C hs hX hbA i s0 _ back (hw.1 c_8)
    replace hw := hw.2
    by_cases c_9 : v = 9
    · refine a_tableIn (pc := 39) C 812 dL_law_39 (by rw [c_9]; decide) (by rw [c_9]; decide) (by rw [c_9]; rfl) (by decide) ?_
      exact law_9 C hs hX hbA i s0 _ back (hw.1 c_9)
    replace hw := hw.2
    by_cases c_10 : v = 10
    · refine a_tableIn (pc := 39) C 880 dL_law_39 (by rw [c_10]; decide) (by rw [c_10]; decide) (by rw [c_10]; rfl) (by decide) ?_
      exact law_10 C hs hX hbA i s0 _ back (hw.1 c_10)
    replace hw := hw.2
    by_cases c_11 : v = 11
    · refine a_tableIn (pc := 39) C 948 dL_law_39 (by rw [c_11]; decide) (by rw [c_11]; decide) (by rw [c_11]; rfl) (by decide) ?_
      exact law_11 C hs hX hbA i s0 _ back (hw.1 c_11)
    replace hw := hw.2
    by_cases c_12 : v = 12
    · refine a_tableIn (pc := 39) C 1004 dL_law_39 (by rw [c_12]; decide) (by rw [c_12]; decide) (by rw [c_12]; rfl) (by decide) ?_
      exact law_12 C hs hX hbA i s0 _ back (hw.1 c_12)
    replace hw := hw.2
    by_cases c_13 : v = 13
    · refine a_tableIn (pc := 39) C 1060 dL_law_39 (by rw [c_13]; decide) (by rw [c_13]; decide) (by rw [c_13]; rfl) (by decide) ?_
      exact law_13 C hs hX hbA i s0 _ back (hw.1 c_13)
    replace hw := hw.2
    by_cases c_14 : v = 14
    · refine a_tableIn (pc := 39) C 1116 dL_law_39 (by rw [c_14]; decide) (by rw [c_14]; decide) (by rw [c_14]; rfl) (by decide) ?_
      exact law_14 C hs hX hbA i s0 _ back (hw.1 c_14)
    replace hw := hw.2
    by_cases c_15 : v = 15
    · refine a_tableIn (pc := 39) C 1129 dL_law_39 (by rw [c_15]; decide) (by rw [c_15]; decide) (by rw [c_15]; rfl) (by decide) ?_
      exact law_15 C hs hX hbA i s0 _ back (hw.1 c_15)
    replace hw := hw.2
    by_cases c_16 : v = 16
    · refine a_tableIn (pc := 39) C 1142 dL_law_39 (by rw [c_16]; decide) (by rw [c_16]; decide) (by rw [c_16]; rfl) (by decide) ?_
      exact law_16 C hs hX hbA i s0 _ back (hw.1 c_16)
    replace hw := hw.2
    by_cases c_17 : v = 17
    · refine a_tableIn (pc := 39) C 1186 dL_law_39 (by rw [c_17]; decide) (by rw [c_17]; decide) (by rw [c_17]; rfl) (by decide) ?_
      exact law_17 C hs hX hbA i s0 _ back (hw.1 c_17)
    replace hw := hw.2
    by_cases c_18 : v = 18
    · refine a_tableIn (pc := 39) C 1230 dL_law_39 (by rw [c_18]; decide) (by rw [c_18]; decide) (by rw [c_18]; rfl) (by decide) ?_
      exact law_18 C hs hX hbA i s0 _ back (hw.1 c_18)
    replace hw := hw.2
    by_cases c_19 : v = 19
    · refine a_tableIn (pc := 39) C 1243 dL_law_39 (by rw [c_19]; decide) (by rw [c_19]; decide) (by rw [c_19]; rfl) (by decide) ?_
      exact law_19 C hs hX hbA i s0 _ back (hw.1 c_19)
    replace hw := hw.2
    by_cases c_20 : v = 20
    · refine a_tableIn (pc := 39) C 1256 dL_law_39 (by rw [c_20]; decide) (by rw [c_20]; decide) (by rw [c_20]; rfl) (by decide) ?_
      exact law_20 C hs hX hbA i s0 _ back (hw.1 c_20)
    replace hw := hw.2
    by_cases c_21 : v = 21
    · refine a_tableIn (pc := 39) C 1300 dL_law_39 (by rw [c_21]; decide) (by rw [c_21]; decide) (by rw [c_21]; rfl) (by decide) ?_
      exact law_21 C hs hX hbA i s0 _ back (hw.1 c_21)
    replace hw := hw.2
    by_cases c_22 : v = 22
    · refine a_tableIn (pc := 39) C 1313 dL_law_39 (by rw [c_22]; decide) (by rw [c_22]; decide) (by rw [c_22]; rfl) (by decide) ?_
      exact law_22 C hs hX hbA i s0 _ back (hw.1 c_22)
    replace hw := hw.2
    by_cases c_23 : v = 23
    · refine a_tableIn (pc := 39) C 1369 dL_law_39 (by rw [c_23]; decide) (by rw [c_23]; decide) (by rw [c_23]; rfl) (by decide) ?_
      exact law_23 C hs hX hbA i s0 _ back (hw.1 c_23)
    replace hw := hw.2
    by_cases c_24 : v = 24
    · refine a_tableIn (pc := 39) C 1425 dL_law_39 (by rw [c_24]; decide) (by rw [c_24]; decide) (by rw [c_24]; rfl) (by decide) ?_
      exact law_24 C hs hX hbA i s0 _ back (hw.1 c_24)
    replace hw := hw.2
    by_cases c_25 : v = 25
    · refine a_tableIn (pc := 39) C 1481 dL_law_39 (by rw [c_25]; decide) (by rw [c_25]; decide) (by rw [c_25]; rfl) (by decide) ?_
      exact law_25 C hs hX hbA i s0 _ back (hw.1 c_25)
    replace hw := hw.2
    by_cases c_26 : v = 26
    · refine a_tableIn (pc := 39) C 1537 dL_law_39 (by rw [c_26]; decide) (by rw [c_26]; decide) (by rw [c_26]; rfl) (by decide) ?_
      exact law_26 C hs hX hbA i s0 _ back (hw.1 c_26)
    replace hw := hw.2
    by_cases c_27 : v = 27
    · refine a_tableIn (pc := 39) C 1593 dL_law_39 (by rw [c_27]; decide) (by rw [c_27]; decide) (by rw [c_27]; rfl) (by decide) ?_
      exact law_27 C hs hX hbA i s0 _ back (hw.1 c_27)
    replace hw := hw.2
    by_cases c_28 : v = 28
    · refine a_tableIn (pc := 39) C 1649 dL_law_39 (by rw [c_28]; decide) (by rw [c_28]; decide) (by rw [c_28]; rfl) (by decide) ?_
      exact law_28 C hs hX hbA i s0 _ back (hw.1 c_28)
    replace hw := hw.2
    by_cases c_29 : v = 29
    · refine a_tableIn (pc := 39) C 1705 dL_law_39 (by rw [c_29]; decide) (by rw [c_29]; decide) (by rw [c_29]; rfl) (by decide) ?_
      exact law_29 C hs hX hbA i s0 _ back (hw.1 c_29)
    replace hw := hw.2
    by_cases c_30 : v = 30
    · refine a_tableIn (pc := 39) C 1768 dL_law_39 (by rw [c_30]; decide) (by rw [c_30]; decide) (by rw [c_30]; rfl) (by decide) ?_
      exact law_30 C hs hX hbA i s0 _ back (hw.1 c_30)
    replace hw := hw.2
    by_cases c_31 : v = 31
    · refine a_tableIn (pc := 39) C 1824 dL_law_39 (by rw [c_31]; decide) (by rw [c_31]; decide) (by rw [c_31]; rfl) (by decide) ?_
      exact law_31 C hs hX hbA i s0 _ back (hw.1 c_31)
    replace hw := hw.2
    by_cases c_32 : v = 32
    · refine a_tableIn (pc := 39) C 1880 dL_law_39 (by rw [c_32]; decide) (by rw [c_32]; decide) (by rw [c_32]; rfl) (by decide) ?_
      exact law_32 C hs hX hbA i s0 _ back (hw.1 c_32)
    replace hw := hw.2
    by_cases c_33 : v = 33
    · refine a_tableIn (pc := 39) C 1936 dL_law_39 (by rw [c_33]; decide) (by rw [c_33]; decide) (by rw [c_33]; rfl) (by decide) ?_
      exact law_33 C hs hX hbA i s0 _ back (hw.1 c_33)
    replace hw := hw.2
    by_cases c_34 : v = 34
    · refine a_tableIn (pc := 39) C 1992 dL_law_39 (by rw [c_34]; decide) (by rw [c_34]; decide) (by rw [c_34]; rfl) (by decide) ?_
      exact law_34 C hs hX hbA i s0 _ back (hw.1 c_34)
    replace hw := hw.2
    by_cases c_35 : v = 35
    · refine a_tableIn (pc := 39) C 2048 dL_law_39 (by rw [c_35]; decide) (by rw [c_35]; decide) (by rw [c_35]; rfl) (by decide) ?_
      exact law_35 C hs hX hbA i s0 _ back (hw.1 c_35)
    replace hw := hw.2
    by_cases c_36 : v = 36
    · refine a_tableIn (pc := 39) C 2061 dL_law_39 (by rw [c_36]; decide) (by rw [c_36]; decide) (by rw [c_36]; rfl) (by decide) ?_
      exact law_36 C hs hX hbA i s0 _ back (hw.1 c_36)
    replace hw := hw.2
    by_cases c_37 : v = 37
    · refine a_tableIn (pc := 39) C 2074 dL_law_39 (by rw [c_37]; decide) (by rw [c_37]; decide) (by rw [c_37]; rfl) (by decide) ?_
      exact law_37 C hs hX hbA i s0 _ back (hw.1 c_37)
    replace hw := hw.2
    by_cases c_38 : v = 38
    · refine a_tableIn (pc := 39) C 2087 dL_law_39 (by rw [c_38]; decide) (by rw [c_38]; decide) (by rw [c_38]; rfl) (by decide) ?_
      exact law_38 C hs hX hbA i s0 _ back (hw.1 c_38)
    replace hw := hw.2
    by_cases c_39 : v = 39
    · refine a_tableIn (pc := 39) C 2100 dL_law_39 (by rw [c_39]; decide) (by rw [c_39]; decide) (by rw [c_39]; rfl) (by decide) ?_
      exact law_39 C hs hX hbA i s0 _ back (hw.1 c_39)
    replace hw := hw.2
    by_cases c_40 : v = 40
    · refine a_tableIn (pc := 39) C 2156 dL_law_39 (by rw [c_40]; decide) (by rw [c_40]; decide) (by rw [c_40]; rfl) (by decide) ?_
      exact law_40 C hs hX hbA i s0 _ back (hw.1 c_40)
    replace hw := hw.2
    by_cases c_41 : v = 41
    · refine a_tableIn (pc := 39) C 2224 dL_law_39 (by rw [c_41]; decide) (by rw [c_41]; decide) (by rw [c_41]; rfl) (by decide) ?_
      exact law_41 C hs hX hbA i s0 _ back (hw.1 c_41)
    replace hw := hw.2
    by_cases c_42 : v = 42
    · refine a_tableIn (pc := 39) C 2280 dL_law_39 (by rw [c_42]; decide) (by rw [c_42]; decide) (by rw [c_42]; rfl) (by decide) ?_
      exact law_42 C hs hX hbA i s0 _ back (hw.1 c_42)
    replace hw := hw.2
    by_cases c_43 : v = 43
    · refine a_tableIn (pc := 39) C 2336 dL_law_39 (by rw [c_43]; decide) (by rw [c_43]; decide) (by rw [c_43]; rfl) (by decide) ?_
      exact law_43 C hs hX hbA i s0 _ back (hw.1 c_43)
    replace hw := hw.2
    by_cases c_44 : v = 44
    · refine a_tableIn (pc := 39) C 2404 dL_law_39 (by rw [c_44]; decide) (by rw [c_44]; decide) (by rw [c_44]; rfl) (by decide) ?_
      exact law_44 C hs hX hbA i s0 _ back (hw.1 c_44)
    replace hw := hw.2
    by_cases c_45 : v = 45
    · refine a_tableIn (pc := 39) C 2460 dL_law_39 (by rw [c_45]; decide) (by rw [c_45]; decide) (by rw [c_45]; rfl) (by decide) ?_
      exact law_45 C hs hX hbA i s0 _ back (hw.1 c_45)
    replace hw := hw.2
    by_cases c_46 : v = 46
    · refine a_tableIn (pc := 39) C 2501 dL_law_39 (by rw [c_46]; decide) (by rw [c_46]; decide) (by rw [c_46]; rfl) (by decide) ?_
      exact law_46 C hs hX hbA i s0 _ back (hw.1 c_46)
    replace hw := hw.2
    by_cases c_47 : v = 47
    · refine a_tableIn (pc := 39) C 2557 dL_law_39 (by rw [c_47]; decide) (by rw [c_47]; decide) (by rw [c_47]; rfl) (by decide) ?_
      exact law_47 C hs hX hbA i s0 _ back (hw.1 c_47)
    replace hw := hw.2
    by_cases c_48 : v = 48
    · refine a_tableIn (pc := 39) C 2570 dL_law_39 (by rw [c_48]; decide) (by rw [c_48]; decide) (by rw [c_48]; rfl) (by decide) ?_
      exact law_48 C hs hX hbA i s0 _ back (hw.1 c_48)
    replace hw := hw.2
    by_cases c_49 : v = 49
    · refine a_tableIn (pc := 39) C 2626 dL_law_39 (by rw [c_49]; decide) (by rw [c_49]; decide) (by rw [c_49]; rfl) (by decide) ?_
      exact law_49 C hs hX hbA i s0 _ back (hw.1 c_49)
    replace hw := hw.2
    by_cases c_50 : v = 50
    · refine a_tableIn (pc := 39) C 2639 dL_law_39 (by rw [c_50]; decide) (by rw [c_50]; decide) (by rw [c_50]; rfl) (by decide) ?_
      exact law_50 C hs hX hbA i s0 _ back (hw.1 c_50)
    replace hw := hw.2
    by_cases c_51 : v = 51
    · refine a_tableIn (pc := 39) C 2680 dL_law_39 (by rw [c_51]; decide) (by rw [c_51]; decide) (by rw [c_51]; rfl) (by decide) ?_
      exact law_51 C hs hX hbA i s0 _ back (hw.1 c_51)
    replace hw := hw.2
    by_cases c_52 : v = 52
    · refine a_tableIn (pc := 39) C 2693 dL_law_39 (by rw [c_52]; decide) (by rw [c_52]; decide) (by rw [c_52]; rfl) (by decide) ?_
      exact law_52 C hs hX hbA i s0 _ back (hw.1 c_52)
    replace hw := hw.2
    by_cases c_53 : v = 53
    · refine a_tableIn (pc := 39) C 2706 dL_law_39 (by rw [c_53]; decide) (by rw [c_53]; decide) (by rw [c_53]; rfl) (by decide) ?_
      exact law_53 C hs hX hbA i s0 _ back (hw.1 c_53)
    replace hw := hw.2
    by_cases c_54 : v = 54
    · refine a_tableIn (pc := 39) C 2719 dL_law_39 (by rw [c_54]; decide) (by rw [c_54]; decide) (by rw [c_54]; rfl) (by decide) ?_
      exact law_54 C hs hX hbA i s0 _ back (hw.1 c_54)
    replace hw := hw.2
    by_cases c_55 : v = 55
    · refine a_tableIn (pc := 39) C 2732 dL_law_39 (by rw [c_55]; decide) (by rw [c_55]; decide) (by rw [c_55]; rfl) (by decide) ?_
      exact law_55 C hs hX hbA i s0 _ back (hw.1 c_55)
    replace hw := hw.2
    by_cases c_56 : v = 56
    · refine a_tableIn (pc := 39) C 2745 dL_law_39 (by rw [c_56]; decide) (by rw [c_56]; decide) (by rw [c_56]; rfl) (by decide) ?_
      exact law_56 C hs hX hbA i s0 _ back (hw.1 c_56)
    replace hw := hw.2
    by_cases c_57 : v = 57
    · refine a_tableIn (pc := 39) C 2786 dL_law_39 (by rw [c_57]; decide) (by rw [c_57]; decide) (by rw [c_57]; rfl) (by decide) ?_
      exact law_57 C hs hX hbA i s0 _ back (hw.1 c_57)
    replace hw := hw.2
    refine a_tableOut (pc := 39) C 2827 dL_law_39 (by have y0 := lv_neT c_0 (a := 0) (by decide); have y1 := lv_neT c_1 (a := 1) (by decide); have y2 := lv_neT c_2 (a := 2) (by decide); have y3 := lv_neT c_3 (a := 3) (by decide); have y4 := lv_neT c_4 (a := 4) (by decide); have y5 := lv_neT c_5 (a := 5) (by decide); have y6 := lv_neT c_6 (a := 6) (by decide); have y7 := lv_neT c_7 (a := 7) (by decide); have y8 := lv_neT c_8 (a := 8) (by decide); have y9 := lv_neT c_9 (a := 9) (by decide); have y10 := lv_neT c_10 (a := 10) (by decide); have y11 := lv_neT c_11 (a := 11) (by decide); have y12 := lv_neT c_12 (a := 12) (by decide); have y13 := lv_neT c_13 (a := 13) (by decide); have y14 := lv_neT c_14 (a := 14) (by decide); have y15 := lv_neT c_15 (a := 15) (by decide); have y16 := lv_neT c_16 (a := 16) (by decide); have y17 := lv_neT c_17 (a := 17) (by decide); have y18 := lv_neT c_18 (a := 18) (by decide); have y19 := lv_neT c_19 (a := 19) (by decide); have y20 := lv_neT c_20 (a := 20) (by decide); have y21 := lv_neT c_21 (a := 21) (by decide); have y22 := lv_neT c_22 (a := 22) (by decide); have y23 := lv_neT c_23 (a := 23) (by decide); have y24 := lv_neT c_24 (a := 24) (by decide); have y25 := lv_neT c_25 (a := 25) (by decide); have y26 := lv_neT c_26 (a := 26) (by decide); have y27 := lv_neT c_27 (a := 27) (by decide); have y28 := lv_neT c_28 (a := 28) (by decide); have y29 := lv_neT c_29 (a := 29) (by decide); have y30 := lv_neT c_30 (a := 30) (by decide); have y31 := lv_neT c_31 (a := 31) (by decide); have y32 := lv_neT c_32 (a := 32) (by decide); have y33 := lv_neT c_33 (a := 33) (by decide); have y34 := lv_neT c_34 (a := 34) (by decide); have y35 := lv_neT c_35 (a := 35) (by decide); have y36 := lv_neT c_36 (a := 36) (by decide); have y37 := lv_neT c_37 (a := 37) (by decide); have y38 := lv_neT c_38 (a := 38) (by decide); have y39 := lv_neT c_39 (a := 39) (by decide); have y40 := lv_neT c_40 (a := 40) (by decide); have y41 := lv_neT c_41 (a := 41) (by decide); have y42 := lv_neT c_42 (a := 42) (by decide); have y43 := lv_neT c_43 (a := 43) (by decide); have y44 := lv_neT c_44 (a := 44) (by decide); have y45 := lv_neT c_45 (a := 45) (by decide); have y46 := lv_neT c_46 (a := 46) (by decide); have y47 := lv_neT c_47 (a := 47) (by decide); have y48 := lv_neT c_48 (a := 48) (by decide); have y49 := lv_neT c_49 (a := 49) (by decide); have y50 := lv_neT c_50 (a := 50) (by decide); have y51 := lv_neT c_51 (a := 51) (by decide); have y52 := lv_neT c_52 (a := 52) (by decide); have y53 := lv_neT c_53 (a := 53) (by decide); have y54 := lv_neT c_54 (a := 54) (by decide); have y55 := lv_neT c_55 (a := 55) (by decide); have y56 := lv_neT c_56 (a := 56) (by decide); have y57 := lv_neT c_57 (a := 57) (by decide); omega) (by decide) ?_
    exact back s0 (hw c_0 c_1 c_2 c_3 c_4 c_5 c_6 c_7 c_8 c_9 c_10 c_11 c_12 c_13 c_14 c_15 c_16 c_17 c_18 c_19 c_20 c_21 c_22 c_23 c_24 c_25 c_26 c_27 c_28 c_29 c_30 c_31 c_32 c_33 c_34 c_35 c_36 c_37 c_38 c_39 c_40 c_41 c_42 c_43 c_44 c_45 c_46 c_47 c_48 c_49 c_50 c_51 c_52 c_53 c_54 c_55 c_56 c_57)
