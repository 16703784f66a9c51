set_option maxRecDepth 100000
/-! THE LAW: cases of its switch, by program -/
def wp_law_0 (G : aG) (xs : Nat → Int32) (L9 x out : Nat) (i : Int32) (s0 : LWS) (Kx : LWS → Prop) : Prop := (vp_in (i + 1) L9 ∧ (5000 ≤ s0.1.2.2.1 ∧ wp_X0_add x (xs (i + 1).toNatClampNeg) out (oXs s0.1 5000) (fun v2 σ1 => ∀ s1 : LWS, s1 = (oXs σ1 (s0.1.2.2.1 - 5000), s0.2) → (vp_in (i + 1) L9 ∧ wp_X6_add (xs (i + 1).toNatClampNeg) s1.2 (fun v4 μ1 => ∀ s3 : LWS, s3 = (s1.1, μ1) → wp_X6_thrown s3.2 (fun v6 μ1 => ∀ s5 : LWS, s5 = (s3.1, μ1) → (((v6 = v2) → (((¬ v2 = 0) → (Kx s5)) ∧ ((v2 = 0) → (∃ (n9 : Nat) (f10 : Nat → Int64), s5.1.1 out = some (.inl (1, n9, .inr (.inl f10))) ∧ vp_in 0 n9 ∧ ((((lg_cmp (f10 (0 : Int32).toNatClampNeg) (v4.toInt64)) = 0) → (Kx s5)) ∧ ((¬ (lg_cmp (f10 (0 : Int32).toNatClampNeg) (v4.toInt64)) = 0) → False)))))) ∧ ((¬ v6 = v2) → False)))))) (fun _ _ => False)))
set_option maxHeartbeats 4000000 in
theorem law_0 {G : aG} {p : Program} {l : Launch} {e : Env} {s : State} {m : MethodId} {args : Array Value} {below : List Frame} {meth : Method} {c : Code} {A : Nat → Prop} {rt : Option FieldType} {Q : State → Prop} {nm : String} {KL n0 u0 mo b L9 x out : Nat} {xs : Nat → Int32} (C : Cx G p l s m args meth c A (yL nm) cL_law 9 rt) (hs : s.heap.size = n0 ∧ slT s.heap = u0) (hX : va_X b L9 xs s s.heap) (hbA : ¬ A b) (i : Int32) (s0 : LWS) (Kx : LWS → Prop) (hKx : ∀ s1 : LWS, Kx s1 → AW G p l e (aRm 200 KL (10 * KL)) s m args below meth c A 9 Q (LW n0 u0 KL mo s1.1 s1.2) 2827 [some (.ref b), some (.ref x), some (.ref mo), some (.ref out), some (.int i), none, none, none, none] []) (hw : wp_law_0 G xs L9 x out i s0 Kx) : AW G p l e (aRm 200 KL (10 * KL)) s m args below meth c A 9 Q (LW n0 u0 KL mo s0.1 s0.2) 284 [some (.ref b), some (.ref x), some (.ref mo), some (.ref out), some (.int i), none, none, none, none] [] := by
  unfold wp_law_0 at hw
  refine a_aload_1 (pc := 284) C dL_law_284 ?_
  refine a_aload_0 (pc := 285) C dL_law_285 ?_
  refine a_iload_4 (pc := 286) C dL_law_286 ?_
  refine a_iconst (pc := 288) C dL_law_288 ic_1 ?_
  refine a_iadd (pc := 289) C dL_law_289 ?_
  refine a_xald (pc := 290) C hX hbA hw.1 dL_law_290 ?_
  have hw := hw.2
  refine a_aload_3 (pc := 291) C dL_law_291 ?_
  refine l_callSW (pc := 292) C hs [.ref x, .int (xs (i + 1).toNatClampNeg), .ref out] (st := []) 5000 hw.1 (fun h n u hB => ct_X0_add l G _ _ _ (lE mo) _ _ _ hw.2 h n u hB) (by decide) (by decide) (lw_SW q1221 q1222 q64 q1223) sg_X0_add (Nat.le_of_ble_eq_true rfl) dL_law_292 (fun v2 σ1 hw => l_top (fun s1 es1 => ?_))
  have hw := hw s1 es1
  refine a_istore_5 (pc := 295) C dL_law_295 (by decide) rfl ?_
  refine a_aload_2 (pc := 297) C dL_law_297 ?_
  refine a_aload_0 (pc := 298) C dL_law_298 ?_
  refine a_iload_4 (pc := 299) C dL_law_299 ?_
  refine a_iconst (pc := 301) C dL_law_301 ic_1 ?_
  refine a_iadd (pc := 302) C dL_law_302 ?_
  refine a_xald (pc := 303) C hX hbA hw.1 dL_law_303 ?_
  have hw := hw.2
  refine l_callMi (pc := 304) C hs [.int (xs (i + 1).toNatClampNeg)] (st := []) (fun h n u hV => ct_X6_add l G _ _ _ _ hw h n u hV) (by decide) (by decide) rfl q77 q1817 q1818 q1819 (lw_meth q1820) sg_X6_add (Nat.le_of_ble_eq_true rfl) dL_law_304 (fun v4 μ1 hw => l_top (fun s3 es3 => ?_))
  have hw := hw s3 es3
  refine a_istore_6 (pc := 307) C dL_law_307 (by decide) rfl ?_
  refine a_aload_2 (pc := 309) C dL_law_309 ?_
  refine l_callMi (pc := 310) C hs [] (st := []) (fun h n u hV => ct_X6_thrown l G _ _ _ hw h n u hV) (by decide) (by decide) rfl q77 q1786 q1787 q1788 (lw_meth q1789) sg_X6_thrown (Nat.le_of_ble_eq_true rfl) dL_law_310 (fun v6 μ1 hw => l_top (fun s5 es5 => ?_))
  have hw := hw s5 es5
  refine a_iload_5 (pc := 313) C dL_law_313 ?_
  refine a_icmp_eq (pc := 315) C 320 dL_law_315 (by decide) (fun c7 => ?_) (fun c7 => ?_)
  · have hw := hw.1 c7
    refine a_iload_5 (pc := 320) C dL_law_320 ?_
    refine a_if_ne (pc := 322) C 337 dL_law_322 (by decide) (fun c8 => ?_) (fun c8 => ?_)
    · have hw := hw.1 c8
      refine a_goto (pc := 337) C 2827 dL_law_337 (by decide) ?_
      exact a_weak (a_le_some (a_le_some (a_le_some (a_le_some (a_le_some (a_le_none (a_le_none (a_le_none (a_le_none a_le_nil))))))))) (hKx _ hw)
    · have hw := hw.2 c8
      refine a_aload_3 (pc := 325) C dL_law_325 ?_
      refine a_iconst (pc := 326) C dL_law_326 ic_0 ?_
      obtain ⟨n9, f10, y1, y2, hw⟩ := hw
      refine l_laload (pc := 327) C y1 y2 dL_law_327 ?_
      refine a_iload_6 (pc := 328) C dL_law_328 ?_
      refine a_i2l (pc := 330) C dL_law_330 ?_
      refine a_lcmp (pc := 331) C dL_law_331 ?_
      refine a_if_eq (pc := 332) C 337 dL_law_332 (by decide) (fun c11 => ?_) (fun c11 => ?_)
      · have hw := hw.1 c11
        refine a_goto (pc := 337) C 2827 dL_law_337 (by decide) ?_
        exact a_weak (a_le_some (a_le_some (a_le_some (a_le_some (a_le_some (a_le_none (a_le_none (a_le_none (a_le_none a_le_nil))))))))) (hKx _ hw)
      · have hw := hw.2 c11
        refine a_iconst (pc := 335) C dL_law_335 ic_0 ?_
        exact False.elim hw
  · have hw := hw.2 c7
    refine a_iconst (pc := 318) C dL_law_318 ic_0 ?_
    exact False.elim hw
def wp_law_1 (G : aG) (xs : Nat → Int32) (L9 x out : Nat) (i : Int32) (s0 : LWS) (Kx : LWS → Prop) : Prop := (vp_in (i + 1) L9 ∧ (5000 ≤ s0.1.2.2.1 ∧ wp_X0_steep x (xs (i + 1).toNatClampNeg) out (oXs s0.1 5000) (fun v2 σ1 => ∀ s1 : LWS, s1 = (oXs σ1 (s0.1.2.2.1 - 5000), s0.2) → (vp_in (i + 1) L9 ∧ wp_X6_steep (xs (i + 1).toNatClampNeg) s1.2 (fun v4 μ1 => ∀ s3 : LWS, s3 = (s1.1, μ1) → wp_X6_thrown s3.2 (fun v6 μ1 => ∀ s5 : LWS, s5 = (s3.1, μ1) → (((v6 = v2) → (((¬ v2 = 0) → (Kx s5)) ∧ ((v2 = 0) → (∃ (n9 : Nat) (f10 : Nat → Int64), s5.1.1 out = some (.inl (1, n9, .inr (.inl f10))) ∧ vp_in 0 n9 ∧ ((((lg_cmp (f10 (0 : Int32).toNatClampNeg) (v4.toInt64)) = 0) → (Kx s5)) ∧ ((¬ (lg_cmp (f10 (0 : Int32).toNatClampNeg) (v4.toInt64)) = 0) → False)))))) ∧ ((¬ v6 = v2) → False)))))) (fun _ _ => False)))
set_option maxHeartbeats 4000000 in
theorem law_1 {G : aG} {p : Program} {l : Launch} {e : Env} {s : State} {m : MethodId} {args : Array Value} {below : List Frame} {meth : Method} {c : Code} {A : Nat → Prop} {rt : Option FieldType} {Q : State → Prop} {nm : String} {KL n0 u0 mo b L9 x out : Nat} {xs : Nat → Int32} (C : Cx G p l s m args meth c A (yL nm) cL_law 9 rt) (hs : s.heap.size = n0 ∧ slT s.heap = u0) (hX : va_X b L9 xs s s.heap) (hbA : ¬ A b) (i : Int32) (s0 : LWS) (Kx : LWS → Prop) (hKx : ∀ s1 : LWS, Kx s1 → AW G p l e (aRm 200 KL (10 * KL)) s m args below meth c A 9 Q (LW n0 u0 KL mo s1.1 s1.2) 2827 [some (.ref b), some (.ref x), some (.ref mo), some (.ref out), some (.int i), none, none, none, none] []) (hw : wp_law_1 G xs L9 x out i s0 Kx) : AW G p l e (aRm 200 KL (10 * KL)) s m args below meth c A 9 Q (LW n0 u0 KL mo s0.1 s0.2) 340 [some (.ref b), some (.ref x), some (.ref mo), some (.ref out), some (.int i), none, none, none, none] [] := by
  unfold wp_law_1 at hw
  refine a_aload_1 (pc := 340) C dL_law_340 ?_
  refine a_aload_0 (pc := 341) C dL_law_341 ?_
  refine a_iload_4 (pc := 342) C dL_law_342 ?_
  refine a_iconst (pc := 344) C dL_law_344 ic_1 ?_
  refine a_iadd (pc := 345) C dL_law_345 ?_
  refine a_xald (pc := 346) C hX hbA hw.1 dL_law_346 ?_
  have hw := hw.2
  refine a_aload_3 (pc := 347) C dL_law_347 ?_
  refine l_callSW (pc := 348) C hs [.ref x, .int (xs (i + 1).toNatClampNeg), .ref out] (st := []) 5000 hw.1 (fun h n u hB => ct_X0_steep l G _ _ _ (lE mo) _ _ _ hw.2 h n u hB) (by decide) (by decide) (lw_SW q1297 q1298 q64 q1299) sg_X0_steep (Nat.le_of_ble_eq_true rfl) dL_law_348 (fun v2 σ1 hw => l_top (fun s1 es1 => ?_))
  have hw := hw s1 es1
  refine a_istore_5 (pc := 351) C dL_law_351 (by decide) rfl ?_
  refine a_aload_2 (pc := 353) C dL_law_353 ?_
  refine a_aload_0 (pc := 354) C dL_law_354 ?_
  refine a_iload_4 (pc := 355) C dL_law_355 ?_
  refine a_iconst (pc := 357) C dL_law_357 ic_1 ?_
  refine a_iadd (pc := 358) C dL_law_358 ?_
  refine a_xald (pc := 359) C hX hbA hw.1 dL_law_359 ?_
  have hw := hw.2
  refine l_callMi (pc := 360) C hs [.int (xs (i + 1).toNatClampNeg)] (st := []) (fun h n u hV => ct_X6_steep l G _ _ _ _ hw h n u hV) (by decide) (by decide) rfl q77 q1832 q1833 q1834 (lw_meth q1835) sg_X6_steep (Nat.le_of_ble_eq_true rfl) dL_law_360 (fun v4 μ1 hw => l_top (fun s3 es3 => ?_))
  have hw := hw s3 es3
  refine a_istore_6 (pc := 363) C dL_law_363 (by decide) rfl ?_
  refine a_aload_2 (pc := 365) C dL_law_365 ?_
  refine l_callMi (pc := 366) C hs [] (st := []) (fun h n u hV => ct_X6_thrown l G _ _ _ hw h n u hV) (by decide) (by decide) rfl q77 q1786 q1787 q1788 (lw_meth q1789) sg_X6_thrown (Nat.le_of_ble_eq_true rfl) dL_law_366 (fun v6 μ1 hw => l_top (fun s5 es5 => ?_))
  have hw := hw s5 es5
  refine a_iload_5 (pc := 369) C dL_law_369 ?_
  refine a_icmp_eq (pc := 371) C 376 dL_law_371 (by decide) (fun c7 => ?_) (fun c7 => ?_)
  · have hw := hw.1 c7
    refine a_iload_5 (pc := 376) C dL_law_376 ?_
    refine a_if_ne (pc := 378) C 393 dL_law_378 (by decide) (fun c8 => ?_) (fun c8 => ?_)
    · have hw := hw.1 c8
      refine a_goto (pc := 393) C 2827 dL_law_393 (by decide) ?_
      exact a_weak (a_le_some (a_le_some (a_le_some (a_le_some (a_le_some (a_le_none (a_le_none (a_le_none (a_le_none a_le_nil))))))))) (hKx _ hw)
    · have hw := hw.2 c8
      refine a_aload_3 (pc := 381) C dL_law_381 ?_
      refine a_iconst (pc := 382) C dL_law_382 ic_0 ?_
      obtain ⟨n9, f10, y1, y2, hw⟩ := hw
      refine l_laload (pc := 383) C y1 y2 dL_law_383 ?_
      refine a_iload_6 (pc := 384) C dL_law_384 ?_
      refine a_i2l (pc := 386) C dL_law_386 ?_
      refine a_lcmp (pc := 387) C dL_law_387 ?_
      refine a_if_eq (pc := 388) C 393 dL_law_388 (by decide) (fun c11 => ?_) (fun c11 => ?_)
      · have hw := hw.1 c11
        refine a_goto (pc := 393) C 2827 dL_law_393 (by decide) ?_
        exact a_weak (a_le_some (a_le_some (a_le_some (a_le_some (a_le_some (a_le_none (a_le_none (a_le_none (a_le_none a_le_nil))))))))) (hKx _ hw)
      · have hw := hw.2 c11
        refine a_iconst (pc := 391) C dL_law_391 ic_0 ?_
        exact False.elim hw
  · have hw := hw.2 c7
    refine a_iconst (pc := 374) C dL_law_374 ic_0 ?_
    exact False.elim hw
def wp_law_2 (G : aG) (xs : Nat → Int32) (L9 x out : Nat) (i : Int32) (s0 : LWS) (Kx : LWS → Prop) : Prop := (vp_in (i + 1) L9 ∧ (vp_in (i + 2) L9 ∧ (5000 ≤ s0.1.2.2.1 ∧ wp_X0_toDrum x (xs (i + 1).toNatClampNeg) (xs (i + 2).toNatClampNeg) out (oXs s0.1 5000) (fun v2 σ1 => ∀ s1 : LWS, s1 = (oXs σ1 (s0.1.2.2.1 - 5000), s0.2) → (vp_in (i + 1) L9 ∧ (vp_in (i + 2) L9 ∧ wp_X6_toDrum (xs (i + 1).toNatClampNeg) (xs (i + 2).toNatClampNeg) s1.2 (fun v4 μ1 => ∀ s3 : LWS, s3 = (s1.1, μ1) → wp_X6_thrown s3.2 (fun v6 μ1 => ∀ s5 : LWS, s5 = (s3.1, μ1) → (((v6 = v2) → (((¬ v2 = 0) → (Kx s5)) ∧ ((v2 = 0) → (∃ (n9 : Nat) (f10 : Nat → Int64), s5.1.1 out = some (.inl (1, n9, .inr (.inl f10))) ∧ vp_in 0 n9 ∧ ((((lg_cmp (f10 (0 : Int32).toNatClampNeg) (v4.toInt64)) = 0) → (Kx s5)) ∧ ((¬ (lg_cmp (f10 (0 : Int32).toNatClampNeg) (v4.toInt64)) = 0) → False)))))) ∧ ((¬ v6 = v2) → False))))))) (fun _ _ => False))))
set_option maxHeartbeats 4000000 in
theorem law_2 {G : aG} {p : Program} {l : Launch} {e : Env} {s : State} {m : MethodId} {args : Array Value} {below : List Frame} {meth : Method} {c : Code} {A : Nat → Prop} {rt : Option FieldType} {Q : State → Prop} {nm : String} {KL n0 u0 mo b L9 x out : Nat} {xs : Nat → Int32} (C : Cx G p l s m args meth c A (yL nm) cL_law 9 rt) (hs : s.heap.size = n0 ∧ slT s.heap = u0) (hX : va_X b L9 xs s s.heap) (hbA : ¬ A b) (i : Int32) (s0 : LWS) (Kx : LWS → Prop) (hKx : ∀ s1 : LWS, Kx s1 → AW G p l e (aRm 200 KL (10 * KL)) s m args below meth c A 9 Q (LW n0 u0 KL mo s1.1 s1.2) 2827 [some (.ref b), some (.ref x), some (.ref mo), some (.ref out), some (.int i), none, none, none, none] []) (hw : wp_law_2 G xs L9 x out i s0 Kx) : AW G p l e (aRm 200 KL (10 * KL)) s m args below meth c A 9 Q (LW n0 u0 KL mo s0.1 s0.2) 396 [some (.ref b), some (.ref x), some (.ref mo), some (.ref out), some (.int i), none, none, none, none] [] := by
  unfold wp_law_2 at hw
  refine a_aload_1 (pc := 396) C dL_law_396 ?_
  refine a_aload_0 (pc := 397) C dL_law_397 ?_
  refine a_iload_4 (pc := 398) C dL_law_398 ?_
  refine a_iconst (pc := 400) C dL_law_400 ic_1 ?_
  refine a_iadd (pc := 401) C dL_law_401 ?_
  refine a_xald (pc := 402) C hX hbA hw.1 dL_law_402 ?_
  have hw := hw.2
  refine a_aload_0 (pc := 403) C dL_law_403 ?_
  refine a_iload_4 (pc := 404) C dL_law_404 ?_
  refine a_iconst (pc := 406) C dL_law_406 ic_2 ?_
  refine a_iadd (pc := 407) C dL_law_407 ?_
  refine a_xald (pc := 408) C hX hbA hw.1 dL_law_408 ?_
  have hw := hw.2
  refine a_aload_3 (pc := 409) C dL_law_409 ?_
  refine l_callSW (pc := 410) C hs [.ref x, .int (xs (i + 1).toNatClampNeg), .int (xs (i + 2).toNatClampNeg), .ref out] (st := []) 5000 hw.1 (fun h n u hB => ct_X0_toDrum l G _ _ _ _ (lE mo) _ _ _ hw.2 h n u hB) (by decide) (by decide) (lw_SW q1341 q1342 q64 q1343) sg_X0_toDrum (Nat.le_of_ble_eq_true rfl) dL_law_410 (fun v2 σ1 hw => l_top (fun s1 es1 => ?_))
  have hw := hw s1 es1
  refine a_istore_5 (pc := 413) C dL_law_413 (by decide) rfl ?_
  refine a_aload_2 (pc := 415) C dL_law_415 ?_
  refine a_aload_0 (pc := 416) C dL_law_416 ?_
  refine a_iload_4 (pc := 417) C dL_law_417 ?_
  refine a_iconst (pc := 419) C dL_law_419 ic_1 ?_
  refine a_iadd (pc := 420) C dL_law_420 ?_
  refine a_xald (pc := 421) C hX hbA hw.1 dL_law_421 ?_
  have hw := hw.2
  refine a_aload_0 (pc := 422) C dL_law_422 ?_
  refine a_iload_4 (pc := 423) C dL_law_423 ?_
  refine a_iconst (pc := 425) C dL_law_425 ic_2 ?_
  refine a_iadd (pc := 426) C dL_law_426 ?_
  refine a_xald (pc := 427) C hX hbA hw.1 dL_law_427 ?_
  have hw := hw.2
  refine l_callMi (pc := 428) C hs [.int (xs (i + 1).toNatClampNeg), .int (xs (i + 2).toNatClampNeg)] (st := []) (fun h n u hV => ct_X6_toDrum l G _ _ _ _ _ hw h n u hV) (by decide) (by decide) rfl q77 q1867 q1868 q1869 (lw_meth q1870) sg_X6_toDrum (Nat.le_of_ble_eq_true rfl) dL_law_428 (fun v4 μ1 hw => l_top (fun s3 es3 => ?_))
  have hw := hw s3 es3
  refine a_istore_6 (pc := 431) C dL_law_431 (by decide) rfl ?_
  refine a_aload_2 (pc := 433) C dL_law_433 ?_
  refine l_callMi (pc := 434) C hs [] (st := []) (fun h n u hV => ct_X6_thrown l G _ _ _ hw h n u hV) (by decide) (by decide) rfl q77 q1786 q1787 q1788 (lw_meth q1789) sg_X6_thrown (Nat.le_of_ble_eq_true rfl) dL_law_434 (fun v6 μ1 hw => l_top (fun s5 es5 => ?_))
  have hw := hw s5 es5
  refine a_iload_5 (pc := 437) C dL_law_437 ?_
  refine a_icmp_eq (pc := 439) C 444 dL_law_439 (by decide) (fun c7 => ?_) (fun c7 => ?_)
  · have hw := hw.1 c7
    refine a_iload_5 (pc := 444) C dL_law_444 ?_
    refine a_if_ne (pc := 446) C 461 dL_law_446 (by decide) (fun c8 => ?_) (fun c8 => ?_)
    · have hw := hw.1 c8
      refine a_goto (pc := 461) C 2827 dL_law_461 (by decide) ?_
      exact a_weak (a_le_some (a_le_some (a_le_some (a_le_some (a_le_some (a_le_none (a_le_none (a_le_none (a_le_none a_le_nil))))))))) (hKx _ hw)
    · have hw := hw.2 c8
      refine a_aload_3 (pc := 449) C dL_law_449 ?_
      refine a_iconst (pc := 450) C dL_law_450 ic_0 ?_
      obtain ⟨n9, f10, y1, y2, hw⟩ := hw
      refine l_laload (pc := 451) C y1 y2 dL_law_451 ?_
      refine a_iload_6 (pc := 452) C dL_law_452 ?_
      refine a_i2l (pc := 454) C dL_law_454 ?_
      refine a_lcmp (pc := 455) C dL_law_455 ?_
      refine a_if_eq (pc := 456) C 461 dL_law_456 (by decide) (fun c11 => ?_) (fun c11 => ?_)
      · have hw := hw.1 c11
        refine a_goto (pc := 461) C 2827 dL_law_461 (by decide) ?_
        exact a_weak (a_le_some (a_le_some (a_le_some (a_le_some (a_le_some (a_le_none (a_le_none (a_le_none (a_le_none a_le_nil))))))))) (hKx _ hw)
      · have hw := hw.2 c11
        refine a_iconst (pc := 459) C dL_law_459 ic_0 ?_
        exact False.elim hw
  · have hw := hw.2 c7
    refine a_iconst (pc := 442) C dL_law_442 ic_0 ?_
    exact False.elim hw
def wp_law_3 (G : aG) (xs : Nat → Int32) (L9 x out : Nat) (i : Int32) (s0 : LWS) (Kx : LWS → Prop) : Prop := (vp_in (i + 1) L9 ∧ (5000 ≤ s0.1.2.2.1 ∧ wp_X0_toHeap x (xs (i + 1).toNatClampNeg) out (oXs s0.1 5000) (fun v2 σ1 => ∀ s1 : LWS, s1 = (oXs σ1 (s0.1.2.2.1 - 5000), s0.2) → (vp_in (i + 1) L9 ∧ wp_X6_toHeap (xs (i + 1).toNatClampNeg) s1.2 (fun v4 μ1 => ∀ s3 : LWS, s3 = (s1.1, μ1) → wp_X6_thrown s3.2 (fun v6 μ1 => ∀ s5 : LWS, s5 = (s3.1, μ1) → (((v6 = v2) → (((¬ v2 = 0) → (Kx s5)) ∧ ((v2 = 0) → (∃ (n9 : Nat) (f10 : Nat → Int64), s5.1.1 out = some (.inl (1, n9, .inr (.inl f10))) ∧ vp_in 0 n9 ∧ ((((lg_cmp (f10 (0 : Int32).toNatClampNeg) (v4.toInt64)) = 0) → (Kx s5)) ∧ ((¬ (lg_cmp (f10 (0 : Int32).toNatClampNeg) (v4.toInt64)) = 0) → False)))))) ∧ ((¬ v6 = v2) → False)))))) (fun _ _ => False)))
set_option maxHeartbeats 4000000 in
theorem law_3 {G : aG} {p : Program} {l : Launch} {e : Env} {s : State} {m : MethodId} {args : Array Value} {below : List Frame} {meth : Method} {c : Code} {A : Nat → Prop} {rt : Option FieldType} {Q : State → Prop} {nm : String} {KL n0 u0 mo b L9 x out : Nat} {xs : Nat → Int32} (C : Cx G p l s m args meth c A (yL nm) cL_law 9 rt) (hs : s.heap.size = n0 ∧ slT s.heap = u0) (hX : va_X b L9 xs s s.heap) (hbA : ¬ A b) (i : Int32) (s0 : LWS) (Kx : LWS → Prop) (hKx : ∀ s1 : LWS, Kx s1 → AW G p l e (aRm 200 KL (10 * KL)) s m args below meth c A 9 Q (LW n0 u0 KL mo s1.1 s1.2) 2827 [some (.ref b), some (.ref x), some (.ref mo), some (.ref out), some (.int i), none, none, none, none] []) (hw : wp_law_3 G xs L9 x out i s0 Kx) : AW G p l e (aRm 200 KL (10 * KL)) s m args below meth c A 9 Q (LW n0 u0 KL mo s0.1 s0.2) 464 [some (.ref b), some (.ref x), some (.ref mo), some (.ref out), some (.int i), none, none, none, none] [] := by
  unfold wp_law_3 at hw
  refine a_aload_1 (pc := 464) C dL_law_464 ?_
  refine a_aload_0 (pc := 465) C dL_law_465 ?_
  refine a_iload_4 (pc := 466) C dL_law_466 ?_
  refine a_iconst (pc := 468) C dL_law_468 ic_1 ?_
  refine a_iadd (pc := 469) C dL_law_469 ?_
  refine a_xald (pc := 470) C hX hbA hw.1 dL_law_470 ?_
  have hw := hw.2
  refine a_aload_3 (pc := 471) C dL_law_471 ?_
  refine l_callSW (pc := 472) C hs [.ref x, .int (xs (i + 1).toNatClampNeg), .ref out] (st := []) 5000 hw.1 (fun h n u hB => ct_X0_toHeap l G _ _ _ (lE mo) _ _ _ hw.2 h n u hB) (by decide) (by decide) (lw_SW q1359 q1360 q64 q1361) sg_X0_toHeap (Nat.le_of_ble_eq_true rfl) dL_law_472 (fun v2 σ1 hw => l_top (fun s1 es1 => ?_))
  have hw := hw s1 es1
  refine a_istore_5 (pc := 475) C dL_law_475 (by decide) rfl ?_
  refine a_aload_2 (pc := 477) C dL_law_477 ?_
  refine a_aload_0 (pc := 478) C dL_law_478 ?_
  refine a_iload_4 (pc := 479) C dL_law_479 ?_
  refine a_iconst (pc := 481) C dL_law_481 ic_1 ?_
  refine a_iadd (pc := 482) C dL_law_482 ?_
  refine a_xald (pc := 483) C hX hbA hw.1 dL_law_483 ?_
  have hw := hw.2
  refine l_callMi (pc := 484) C hs [.int (xs (i + 1).toNatClampNeg)] (st := []) (fun h n u hV => ct_X6_toHeap l G _ _ _ _ hw h n u hV) (by decide) (by decide) rfl q77 q1886 q1887 q1888 (lw_meth q1889) sg_X6_toHeap (Nat.le_of_ble_eq_true rfl) dL_law_484 (fun v4 μ1 hw => l_top (fun s3 es3 => ?_))
  have hw := hw s3 es3
  refine a_istore_6 (pc := 487) C dL_law_487 (by decide) rfl ?_
  refine a_aload_2 (pc := 489) C dL_law_489 ?_
  refine l_callMi (pc := 490) C hs [] (st := []) (fun h n u hV => ct_X6_thrown l G _ _ _ hw h n u hV) (by decide) (by decide) rfl q77 q1786 q1787 q1788 (lw_meth q1789) sg_X6_thrown (Nat.le_of_ble_eq_true rfl) dL_law_490 (fun v6 μ1 hw => l_top (fun s5 es5 => ?_))
  have hw := hw s5 es5
  refine a_iload_5 (pc := 493) C dL_law_493 ?_
  refine a_icmp_eq (pc := 495) C 500 dL_law_495 (by decide) (fun c7 => ?_) (fun c7 => ?_)
  · have hw := hw.1 c7
    refine a_iload_5 (pc := 500) C dL_law_500 ?_
    refine a_if_ne (pc := 502) C 517 dL_law_502 (by decide) (fun c8 => ?_) (fun c8 => ?_)
    · have hw := hw.1 c8
      refine a_goto (pc := 517) C 2827 dL_law_517 (by decide) ?_
      exact a_weak (a_le_some (a_le_some (a_le_some (a_le_some (a_le_some (a_le_none (a_le_none (a_le_none (a_le_none a_le_nil))))))))) (hKx _ hw)
    · have hw := hw.2 c8
      refine a_aload_3 (pc := 505) C dL_law_505 ?_
      refine a_iconst (pc := 506) C dL_law_506 ic_0 ?_
      obtain ⟨n9, f10, y1, y2, hw⟩ := hw
      refine l_laload (pc := 507) C y1 y2 dL_law_507 ?_
      refine a_iload_6 (pc := 508) C dL_law_508 ?_
      refine a_i2l (pc := 510) C dL_law_510 ?_
      refine a_lcmp (pc := 511) C dL_law_511 ?_
      refine a_if_eq (pc := 512) C 517 dL_law_512 (by decide) (fun c11 => ?_) (fun c11 => ?_)
      · have hw := hw.1 c11
        refine a_goto (pc := 517) C 2827 dL_law_517 (by decide) ?_
        exact a_weak (a_le_some (a_le_some (a_le_some (a_le_some (a_le_some (a_le_none (a_le_none (a_le_none (a_le_none a_le_nil))))))))) (hKx _ hw)
      · have hw := hw.2 c11
        refine a_iconst (pc := 515) C dL_law_515 ic_0 ?_
        exact False.elim hw
  · have hw := hw.2 c7
    refine a_iconst (pc := 498) C dL_law_498 ic_0 ?_
    exact False.elim hw
def wp_law_4 (G : aG) (xs : Nat → Int32) (L9 x out : Nat) (i : Int32) (s0 : LWS) (Kx : LWS → Prop) : Prop := (vp_in (i + 1) L9 ∧ (5000 ≤ s0.1.2.2.1 ∧ wp_X0_load x (xs (i + 1).toNatClampNeg) out (oXs s0.1 5000) (fun v2 σ1 => ∀ s1 : LWS, s1 = (oXs σ1 (s0.1.2.2.1 - 5000), s0.2) → (vp_in (i + 1) L9 ∧ wp_X6_load (xs (i + 1).toNatClampNeg) s1.2 (fun v4 μ1 => ∀ s3 : LWS, s3 = (s1.1, μ1) → wp_X6_thrown s3.2 (fun v6 μ1 => ∀ s5 : LWS, s5 = (s3.1, μ1) → (((v6 = v2) → (((¬ v2 = 0) → (Kx s5)) ∧ ((v2 = 0) → (∃ (n9 : Nat) (f10 : Nat → Int64), s5.1.1 out = some (.inl (1, n9, .inr (.inl f10))) ∧ vp_in 0 n9 ∧ ((((lg_cmp (f10 (0 : Int32).toNatClampNeg) (v4.toInt64)) = 0) → (Kx s5)) ∧ ((¬ (lg_cmp (f10 (0 : Int32).toNatClampNeg) (v4.toInt64)) = 0) → False)))))) ∧ ((¬ v6 = v2) → False)))))) (fun _ _ => False)))
set_option maxHeartbeats 4000000 in
theorem law_4 {G : aG} {p : Program} {l : Launch} {e : Env} {s : State} {m : MethodId} {args : Array Value} {below : List Frame} {meth : Method} {c : Code} {A : Nat → Prop} {rt : Option FieldType} {Q : State → Prop} {nm : String} {KL n0 u0 mo b L9 x out : Nat} {xs : Nat → Int32} (C : Cx G p l s m args meth c A (yL nm) cL_law 9 rt) (hs : s.heap.size = n0 ∧ slT s.heap = u0) (hX : va_X b L9 xs s s.heap) (hbA : ¬ A b) (i : Int32) (s0 : LWS) (Kx : LWS → Prop) (hKx : ∀ s1 : LWS, Kx s1 → AW G p l e (aRm 200 KL (10 * KL)) s m args below meth c A 9 Q (LW n0 u0 KL mo s1.1 s1.2) 2827 [some (.ref b), some (.ref x), some (.ref mo), some (.ref out), some (.int i), none, none, none, none] []) (hw : wp_law_4 G xs L9 x out i s0 Kx) : AW G p l e (aRm 200 KL (10 * KL)) s m args below meth c A 9 Q (LW n0 u0 KL mo s0.1 s0.2) 520 [some (.ref b), some (.ref x), some (.ref mo), some (.ref out), some (.int i), none, none, none, none] [] := by
  unfold wp_law_4 at hw
  refine a_aload_1 (pc := 520) C dL_law_520 ?_
  refine a_aload_0 (pc := 521) C dL_law_521 ?_
  refine a_iload_4 (pc := 522) C dL_law_522 ?_
  refine a_iconst (pc := 524) C dL_law_524 ic_1 ?_
  refine a_iadd (pc := 525) C dL_law_525 ?_
  refine a_xald (pc := 526) C hX hbA hw.1 dL_law_526 ?_
  have hw := hw.2
  refine a_aload_3 (pc := 527) C dL_law_527 ?_
  refine l_callSW (pc := 528) C hs [.ref x, .int (xs (i + 1).toNatClampNeg), .ref out] (st := []) 5000 hw.1 (fun h n u hB => ct_X0_load l G _ _ _ (lE mo) _ _ _ hw.2 h n u hB) (by decide) (by decide) (lw_SW q1374 q1375 q64 q1376) sg_X0_load (Nat.le_of_ble_eq_true rfl) dL_law_528 (fun v2 σ1 hw => l_top (fun s1 es1 => ?_))
  have hw := hw s1 es1
  refine a_istore_5 (pc := 531) C dL_law_531 (by decide) rfl ?_
  refine a_aload_2 (pc := 533) C dL_law_533 ?_
  refine a_aload_0 (pc := 534) C dL_law_534 ?_
  refine a_iload_4 (pc := 535) C dL_law_535 ?_
  refine a_iconst (pc := 537) C dL_law_537 ic_1 ?_
  refine a_iadd (pc := 538) C dL_law_538 ?_
  refine a_xald (pc := 539) C hX hbA hw.1 dL_law_539 ?_
  have hw := hw.2
  refine l_callMi (pc := 540) C hs [.int (xs (i + 1).toNatClampNeg)] (st := []) (fun h n u hV => ct_X6_load l G _ _ _ _ hw h n u hV) (by decide) (by decide) rfl q77 q1894 q1895 q1896 (lw_meth q1897) sg_X6_load (Nat.le_of_ble_eq_true rfl) dL_law_540 (fun v4 μ1 hw => l_top (fun s3 es3 => ?_))
  have hw := hw s3 es3
  refine a_istore_6 (pc := 543) C dL_law_543 (by decide) rfl ?_
  refine a_aload_2 (pc := 545) C dL_law_545 ?_
  refine l_callMi (pc := 546) C hs [] (st := []) (fun h n u hV => ct_X6_thrown l G _ _ _ hw h n u hV) (by decide) (by decide) rfl q77 q1786 q1787 q1788 (lw_meth q1789) sg_X6_thrown (Nat.le_of_ble_eq_true rfl) dL_law_546 (fun v6 μ1 hw => l_top (fun s5 es5 => ?_))
  have hw := hw s5 es5
  refine a_iload_5 (pc := 549) C dL_law_549 ?_
  refine a_icmp_eq (pc := 551) C 556 dL_law_551 (by decide) (fun c7 => ?_) (fun c7 => ?_)
  · have hw := hw.1 c7
    refine a_iload_5 (pc := 556) C dL_law_556 ?_
    refine a_if_ne (pc := 558) C 573 dL_law_558 (by decide) (fun c8 => ?_) (fun c8 => ?_)
    · have hw := hw.1 c8
      refine a_goto (pc := 573) C 2827 dL_law_573 (by decide) ?_
      exact a_weak (a_le_some (a_le_some (a_le_some (a_le_some (a_le_some (a_le_none (a_le_none (a_le_none (a_le_none a_le_nil))))))))) (hKx _ hw)
    · have hw := hw.2 c8
      refine a_aload_3 (pc := 561) C dL_law_561 ?_
      refine a_iconst (pc := 562) C dL_law_562 ic_0 ?_
      obtain ⟨n9, f10, y1, y2, hw⟩ := hw
      refine l_laload (pc := 563) C y1 y2 dL_law_563 ?_
      refine a_iload_6 (pc := 564) C dL_law_564 ?_
      refine a_i2l (pc := 566) C dL_law_566 ?_
      refine a_lcmp (pc := 567) C dL_law_567 ?_
      refine a_if_eq (pc := 568) C 573 dL_law_568 (by decide) (fun c11 => ?_) (fun c11 => ?_)
      · have hw := hw.1 c11
        refine a_goto (pc := 573) C 2827 dL_law_573 (by decide) ?_
        exact a_weak (a_le_some (a_le_some (a_le_some (a_le_some (a_le_some (a_le_none (a_le_none (a_le_none (a_le_none a_le_nil))))))))) (hKx _ hw)
      · have hw := hw.2 c11
        refine a_iconst (pc := 571) C dL_law_571 ic_0 ?_
        exact False.elim hw
  · have hw := hw.2 c7
    refine a_iconst (pc := 554) C dL_law_554 ic_0 ?_
    exact False.elim hw
def wp_law_5 (G : aG) (xs : Nat → Int32) (L9 x out : Nat) (i : Int32) (s0 : LWS) (Kx : LWS → Prop) : Prop := (5000 ≤ s0.1.2.2.1 ∧ wp_X0_light x out (oXs s0.1 5000) (fun v2 σ1 => ∀ s1 : LWS, s1 = (oXs σ1 (s0.1.2.2.1 - 5000), s0.2) → wp_X6_light s1.2 (fun v4 μ1 => ∀ s3 : LWS, s3 = (s1.1, μ1) → wp_X6_thrown s3.2 (fun v6 μ1 => ∀ s5 : LWS, s5 = (s3.1, μ1) → (((v6 = v2) → (((¬ v2 = 0) → (Kx s5)) ∧ ((v2 = 0) → (∃ (n9 : Nat) (f10 : Nat → Int64), s5.1.1 out = some (.inl (1, n9, .inr (.inl f10))) ∧ vp_in 0 n9 ∧ ((((lg_cmp (f10 (0 : Int32).toNatClampNeg) (v4.toInt64)) = 0) → (Kx s5)) ∧ ((¬ (lg_cmp (f10 (0 : Int32).toNatClampNeg) (v4.toInt64)) = 0) → False)))))) ∧ ((¬ v6 = v2) → False))))) (fun _ _ => False))
set_option maxHeartbeats 4000000 in
theorem law_5 {G : aG} {p : Program} {l : Launch} {e : Env} {s : State} {m : MethodId} {args : Array Value} {below : List Frame} {meth : Method} {c : Code} {A : Nat → Prop} {rt : Option FieldType} {Q : State → Prop} {nm : String} {KL n0 u0 mo b L9 x out : Nat} {xs : Nat → Int32} (C : Cx G p l s m args meth c A (yL nm) cL_law 9 rt) (hs : s.heap.size = n0 ∧ slT s.heap = u0) (hX : va_X b L9 xs s s.heap) (hbA : ¬ A b) (i : Int32) (s0 : LWS) (Kx : LWS → Prop) (hKx : ∀ s1 : LWS, Kx s1 → AW G p l e (aRm 200 KL (10 * KL)) s m args below meth c A 9 Q (LW n0 u0 KL mo s1.1 s1.2) 2827 [some (.ref b), some (.ref x), some (.ref mo), some (.ref out), some (.int i), none, none, none, none] []) (hw : wp_law_5 G xs L9 x out i s0 Kx) : AW G p l e (aRm 200 KL (10 * KL)) s m args below meth c A 9 Q (LW n0 u0 KL mo s0.1 s0.2) 576 [some (.ref b), some (.ref x), some (.ref mo), some (.ref out), some (.int i), none, none, none, none] [] := by
  unfold wp_law_5 at hw
  refine a_aload_1 (pc := 576) C dL_law_576 ?_
  refine a_aload_3 (pc := 577) C dL_law_577 ?_
  refine l_callSW (pc := 578) C hs [.ref x, .ref out] (st := []) 5000 hw.1 (fun h n u hB => ct_X0_light l G _ _ (lE mo) _ _ _ hw.2 h n u hB) (by decide) (by decide) (lw_SW q1390 q1391 q64 q1392) sg_X0_light (Nat.le_of_ble_eq_true rfl) dL_law_578 (fun v2 σ1 hw => l_top (fun s1 es1 => ?_))
  have hw := hw s1 es1
  refine a_istore_5 (pc := 581) C dL_law_581 (by decide) rfl ?_
  refine a_aload_2 (pc := 583) C dL_law_583 ?_
  refine l_callMi (pc := 584) C hs [] (st := []) (fun h n u hV => ct_X6_light l G _ _ _ hw h n u hV) (by decide) (by decide) rfl q77 q1910 q1911 q1912 (lw_meth q1913) sg_X6_light (Nat.le_of_ble_eq_true rfl) dL_law_584 (fun v4 μ1 hw => l_top (fun s3 es3 => ?_))
  have hw := hw s3 es3
  refine a_istore_6 (pc := 587) C dL_law_587 (by decide) rfl ?_
  refine a_aload_2 (pc := 589) C dL_law_589 ?_
  refine l_callMi (pc := 590) C hs [] (st := []) (fun h n u hV => ct_X6_thrown l G _ _ _ hw h n u hV) (by decide) (by decide) rfl q77 q1786 q1787 q1788 (lw_meth q1789) sg_X6_thrown (Nat.le_of_ble_eq_true rfl) dL_law_590 (fun v6 μ1 hw => l_top (fun s5 es5 => ?_))
  have hw := hw s5 es5
  refine a_iload_5 (pc := 593) C dL_law_593 ?_
  refine a_icmp_eq (pc := 595) C 600 dL_law_595 (by decide) (fun c7 => ?_) (fun c7 => ?_)
  · have hw := hw.1 c7
    refine a_iload_5 (pc := 600) C dL_law_600 ?_
    refine a_if_ne (pc := 602) C 617 dL_law_602 (by decide) (fun c8 => ?_) (fun c8 => ?_)
    · have hw := hw.1 c8
      refine a_goto (pc := 617) C 2827 dL_law_617 (by decide) ?_
      exact a_weak (a_le_some (a_le_some (a_le_some (a_le_some (a_le_some (a_le_none (a_le_none (a_le_none (a_le_none a_le_nil))))))))) (hKx _ hw)
    · have hw := hw.2 c8
      refine a_aload_3 (pc := 605) C dL_law_605 ?_
      refine a_iconst (pc := 606) C dL_law_606 ic_0 ?_
      obtain ⟨n9, f10, y1, y2, hw⟩ := hw
      refine l_laload (pc := 607) C y1 y2 dL_law_607 ?_
      refine a_iload_6 (pc := 608) C dL_law_608 ?_
      refine a_i2l (pc := 610) C dL_law_610 ?_
      refine a_lcmp (pc := 611) C dL_law_611 ?_
      refine a_if_eq (pc := 612) C 617 dL_law_612 (by decide) (fun c11 => ?_) (fun c11 => ?_)
      · have hw := hw.1 c11
        refine a_goto (pc := 617) C 2827 dL_law_617 (by decide) ?_
        exact a_weak (a_le_some (a_le_some (a_le_some (a_le_some (a_le_some (a_le_none (a_le_none (a_le_none (a_le_none a_le_nil))))))))) (hKx _ hw)
      · have hw := hw.2 c11
        refine a_iconst (pc := 615) C dL_law_615 ic_0 ?_
        exact False.elim hw
  · have hw := hw.2 c7
    refine a_iconst (pc := 598) C dL_law_598 ic_0 ?_
    exact False.elim hw
def wp_law_6 (G : aG) (xs : Nat → Int32) (L9 x out : Nat) (i : Int32) (s0 : LWS) (Kx : LWS → Prop) : Prop := (vp_in (i + 1) L9 ∧ (5000 ≤ s0.1.2.2.1 ∧ wp_X0_spray x (xs (i + 1).toNatClampNeg) out (oXs s0.1 5000) (fun v2 σ1 => ∀ s1 : LWS, s1 = (oXs σ1 (s0.1.2.2.1 - 5000), s0.2) → (vp_in (i + 1) L9 ∧ wp_X6_spray (xs (i + 1).toNatClampNeg) s1.2 (fun v4 μ1 => ∀ s3 : LWS, s3 = (s1.1, μ1) → wp_X6_thrown s3.2 (fun v6 μ1 => ∀ s5 : LWS, s5 = (s3.1, μ1) → (((v6 = v2) → (((¬ v2 = 0) → (Kx s5)) ∧ ((v2 = 0) → (∃ (n9 : Nat) (f10 : Nat → Int64), s5.1.1 out = some (.inl (1, n9, .inr (.inl f10))) ∧ vp_in 0 n9 ∧ ((((lg_cmp (f10 (0 : Int32).toNatClampNeg) (v4.toInt64)) = 0) → (Kx s5)) ∧ ((¬ (lg_cmp (f10 (0 : Int32).toNatClampNeg) (v4.toInt64)) = 0) → False)))))) ∧ ((¬ v6 = v2) → False)))))) (fun _ _ => False)))
set_option maxHeartbeats 4000000 in
theorem law_6 {G : aG} {p : Program} {l : Launch} {e : Env} {s : State} {m : MethodId} {args : Array Value} {below : List Frame} {meth : Method} {c : Code} {A : Nat → Prop} {rt : Option FieldType} {Q : State → Prop} {nm : String} {KL n0 u0 mo b L9 x out : Nat} {xs : Nat → Int32} (C : Cx G p l s m args meth c A (yL nm) cL_law 9 rt) (hs : s.heap.size = n0 ∧ slT s.heap = u0) (hX : va_X b L9 xs s s.heap) (hbA : ¬ A b) (i : Int32) (s0 : LWS) (Kx : LWS → Prop) (hKx : ∀ s1 : LWS, Kx s1 → AW G p l e (aRm 200 KL (10 * KL)) s m args below meth c A 9 Q (LW n0 u0 KL mo s1.1 s1.2) 2827 [some (.ref b), some (.ref x), some (.ref mo), some (.ref out), some (.int i), none, none, none, none] []) (hw : wp_law_6 G xs L9 x out i s0 Kx) : AW G p l e (aRm 200 KL (10 * KL)) s m args below meth c A 9 Q (LW n0 u0 KL mo s0.1 s0.2) 620 [some (.ref b), some (.ref x), some (.ref mo), some (.ref out), some (.int i), none, none, none, none] [] := by
  unfold wp_law_6 at hw
  refine a_aload_1 (pc := 620) C dL_law_620 ?_
  refine a_aload_0 (pc := 621) C dL_law_621 ?_
  refine a_iload_4 (pc := 622) C dL_law_622 ?_
  refine a_iconst (pc := 624) C dL_law_624 ic_1 ?_
  refine a_iadd (pc := 625) C dL_law_625 ?_
  refine a_xald (pc := 626) C hX hbA hw.1 dL_law_626 ?_
  have hw := hw.2
  refine a_aload_3 (pc := 627) C dL_law_627 ?_
  refine l_callSW (pc := 628) C hs [.ref x, .int (xs (i + 1).toNatClampNeg), .ref out] (st := []) 5000 hw.1 (fun h n u hB => ct_X0_spray l G _ _ _ (lE mo) _ _ _ hw.2 h n u hB) (by decide) (by decide) (lw_SW q1405 q1406 q64 q1407) sg_X0_spray (Nat.le_of_ble_eq_true rfl) dL_law_628 (fun v2 σ1 hw => l_top (fun s1 es1 => ?_))
  have hw := hw s1 es1
  refine a_istore_5 (pc := 631) C dL_law_631 (by decide) rfl ?_
  refine a_aload_2 (pc := 633) C dL_law_633 ?_
  refine a_aload_0 (pc := 634) C dL_law_634 ?_
  refine a_iload_4 (pc := 635) C dL_law_635 ?_
  refine a_iconst (pc := 637) C dL_law_637 ic_1 ?_
  refine a_iadd (pc := 638) C dL_law_638 ?_
  refine a_xald (pc := 639) C hX hbA hw.1 dL_law_639 ?_
  have hw := hw.2
  refine l_callMi (pc := 640) C hs [.int (xs (i + 1).toNatClampNeg)] (st := []) (fun h n u hV => ct_X6_spray l G _ _ _ _ hw h n u hV) (by decide) (by decide) rfl q77 q1918 q1919 q1920 (lw_meth q1921) sg_X6_spray (Nat.le_of_ble_eq_true rfl) dL_law_640 (fun v4 μ1 hw => l_top (fun s3 es3 => ?_))
  have hw := hw s3 es3
  refine a_istore_6 (pc := 643) C dL_law_643 (by decide) rfl ?_
  refine a_aload_2 (pc := 645) C dL_law_645 ?_
  refine l_callMi (pc := 646) C hs [] (st := []) (fun h n u hV => ct_X6_thrown l G _ _ _ hw h n u hV) (by decide) (by decide) rfl q77 q1786 q1787 q1788 (lw_meth q1789) sg_X6_thrown (Nat.le_of_ble_eq_true rfl) dL_law_646 (fun v6 μ1 hw => l_top (fun s5 es5 => ?_))
  have hw := hw s5 es5
  refine a_iload_5 (pc := 649) C dL_law_649 ?_
  refine a_icmp_eq (pc := 651) C 656 dL_law_651 (by decide) (fun c7 => ?_) (fun c7 => ?_)
  · have hw := hw.1 c7
    refine a_iload_5 (pc := 656) C dL_law_656 ?_
    refine a_if_ne (pc := 658) C 673 dL_law_658 (by decide) (fun c8 => ?_) (fun c8 => ?_)
    · have hw := hw.1 c8
      refine a_goto (pc := 673) C 2827 dL_law_673 (by decide) ?_
      exact a_weak (a_le_some (a_le_some (a_le_some (a_le_some (a_le_some (a_le_none (a_le_none (a_le_none (a_le_none a_le_nil))))))))) (hKx _ hw)
    · have hw := hw.2 c8
      refine a_aload_3 (pc := 661) C dL_law_661 ?_
      refine a_iconst (pc := 662) C dL_law_662 ic_0 ?_
      obtain ⟨n9, f10, y1, y2, hw⟩ := hw
      refine l_laload (pc := 663) C y1 y2 dL_law_663 ?_
      refine a_iload_6 (pc := 664) C dL_law_664 ?_
      refine a_i2l (pc := 666) C dL_law_666 ?_
      refine a_lcmp (pc := 667) C dL_law_667 ?_
      refine a_if_eq (pc := 668) C 673 dL_law_668 (by decide) (fun c11 => ?_) (fun c11 => ?_)
      · have hw := hw.1 c11
        refine a_goto (pc := 673) C 2827 dL_law_673 (by decide) ?_
        exact a_weak (a_le_some (a_le_some (a_le_some (a_le_some (a_le_some (a_le_none (a_le_none (a_le_none (a_le_none a_le_nil))))))))) (hKx _ hw)
      · have hw := hw.2 c11
        refine a_iconst (pc := 671) C dL_law_671 ic_0 ?_
        exact False.elim hw
  · have hw := hw.2 c7
    refine a_iconst (pc := 654) C dL_law_654 ic_0 ?_
    exact False.elim hw
def wp_law_7 (G : aG) (xs : Nat → Int32) (L9 x out : Nat) (i : Int32) (s0 : LWS) (Kx : LWS → Prop) : Prop := (vp_in (i + 1) L9 ∧ (vp_in (i + 2) L9 ∧ (5000 ≤ s0.1.2.2.1 ∧ wp_X0_setAir x (xs (i + 1).toNatClampNeg) (xs (i + 2).toNatClampNeg) out (oXs s0.1 5000) (fun v2 σ1 => ∀ s1 : LWS, s1 = (oXs σ1 (s0.1.2.2.1 - 5000), s0.2) → (vp_in (i + 1) L9 ∧ (vp_in (i + 2) L9 ∧ wp_X6_setAir (xs (i + 1).toNatClampNeg) (xs (i + 2).toNatClampNeg) s1.2 (fun v4 μ1 => ∀ s3 : LWS, s3 = (s1.1, μ1) → wp_X6_thrown s3.2 (fun v6 μ1 => ∀ s5 : LWS, s5 = (s3.1, μ1) → (((v6 = v2) → (((¬ v2 = 0) → (Kx s5)) ∧ ((v2 = 0) → (∃ (n9 : Nat) (f10 : Nat → Int64), s5.1.1 out = some (.inl (1, n9, .inr (.inl f10))) ∧ vp_in 0 n9 ∧ ((((lg_cmp (f10 (0 : Int32).toNatClampNeg) (v4.toInt64)) = 0) → (Kx s5)) ∧ ((¬ (lg_cmp (f10 (0 : Int32).toNatClampNeg) (v4.toInt64)) = 0) → False)))))) ∧ ((¬ v6 = v2) → False))))))) (fun _ _ => False))))
set_option maxHeartbeats 4000000 in
theorem law_7 {G : aG} {p : Program} {l : Launch} {e : Env} {s : State} {m : MethodId} {args : Array Value} {below : List Frame} {meth : Method} {c : Code} {A : Nat → Prop} {rt : Option FieldType} {Q : State → Prop} {nm : String} {KL n0 u0 mo b L9 x out : Nat} {xs : Nat → Int32} (C : Cx G p l s m args meth c A (yL nm) cL_law 9 rt) (hs : s.heap.size = n0 ∧ slT s.heap = u0) (hX : va_X b L9 xs s s.heap) (hbA : ¬ A b) (i : Int32) (s0 : LWS) (Kx : LWS → Prop) (hKx : ∀ s1 : LWS, Kx s1 → AW G p l e (aRm 200 KL (10 * KL)) s m args below meth c A 9 Q (LW n0 u0 KL mo s1.1 s1.2) 2827 [some (.ref b), some (.ref x), some (.ref mo), some (.ref out), some (.int i), none, none, none, none] []) (hw : wp_law_7 G xs L9 x out i s0 Kx) : AW G p l e (aRm 200 KL (10 * KL)) s m args below meth c A 9 Q (LW n0 u0 KL mo s0.1 s0.2) 676 [some (.ref b), some (.ref x), some (.ref mo), some (.ref out), some (.int i), none, none, none, none] [] := by
  unfold wp_law_7 at hw
  refine a_aload_1 (pc := 676) C dL_law_676 ?_
  refine a_aload_0 (pc := 677) C dL_law_677 ?_
  refine a_iload_4 (pc := 678) C dL_law_678 ?_
  refine a_iconst (pc := 680) C dL_law_680 ic_1 ?_
  refine a_iadd (pc := 681) C dL_law_681 ?_
  refine a_xald (pc := 682) C hX hbA hw.1 dL_law_682 ?_
  have hw := hw.2
  refine a_aload_0 (pc := 683) C dL_law_683 ?_
  refine a_iload_4 (pc := 684) C dL_law_684 ?_
  refine a_iconst (pc := 686) C dL_law_686 ic_2 ?_
  refine a_iadd (pc := 687) C dL_law_687 ?_
  refine a_xald (pc := 688) C hX hbA hw.1 dL_law_688 ?_
  have hw := hw.2
  refine a_aload_3 (pc := 689) C dL_law_689 ?_
  refine l_callSW (pc := 690) C hs [.ref x, .int (xs (i + 1).toNatClampNeg), .int (xs (i + 2).toNatClampNeg), .ref out] (st := []) 5000 hw.1 (fun h n u hB => ct_X0_setAir l G _ _ _ _ (lE mo) _ _ _ hw.2 h n u hB) (by decide) (by decide) (lw_SW q1420 q1421 q64 q1422) sg_X0_setAir (Nat.le_of_ble_eq_true rfl) dL_law_690 (fun v2 σ1 hw => l_top (fun s1 es1 => ?_))
  have hw := hw s1 es1
  refine a_istore_5 (pc := 693) C dL_law_693 (by decide) rfl ?_
  refine a_aload_2 (pc := 695) C dL_law_695 ?_
  refine a_aload_0 (pc := 696) C dL_law_696 ?_
  refine a_iload_4 (pc := 697) C dL_law_697 ?_
  refine a_iconst (pc := 699) C dL_law_699 ic_1 ?_
  refine a_iadd (pc := 700) C dL_law_700 ?_
  refine a_xald (pc := 701) C hX hbA hw.1 dL_law_701 ?_
  have hw := hw.2
  refine a_aload_0 (pc := 702) C dL_law_702 ?_
  refine a_iload_4 (pc := 703) C dL_law_703 ?_
  refine a_iconst (pc := 705) C dL_law_705 ic_2 ?_
  refine a_iadd (pc := 706) C dL_law_706 ?_
  refine a_xald (pc := 707) C hX hbA hw.1 dL_law_707 ?_
  have hw := hw.2
  refine l_callMi (pc := 708) C hs [.int (xs (i + 1).toNatClampNeg), .int (xs (i + 2).toNatClampNeg)] (st := []) (fun h n u hV => ct_X6_setAir l G _ _ _ _ _ hw h n u hV) (by decide) (by decide) rfl q77 q1937 q1938 q1939 (lw_meth q1940) sg_X6_setAir (Nat.le_of_ble_eq_true rfl) dL_law_708 (fun v4 μ1 hw => l_top (fun s3 es3 => ?_))
  have hw := hw s3 es3
  refine a_istore_6 (pc := 711) C dL_law_711 (by decide) rfl ?_
  refine a_aload_2 (pc := 713) C dL_law_713 ?_
  refine l_callMi (pc := 714) C hs [] (st := []) (fun h n u hV => ct_X6_thrown l G _ _ _ hw h n u hV) (by decide) (by decide) rfl q77 q1786 q1787 q1788 (lw_meth q1789) sg_X6_thrown (Nat.le_of_ble_eq_true rfl) dL_law_714 (fun v6 μ1 hw => l_top (fun s5 es5 => ?_))
  have hw := hw s5 es5
  refine a_iload_5 (pc := 717) C dL_law_717 ?_
  refine a_icmp_eq (pc := 719) C 724 dL_law_719 (by decide) (fun c7 => ?_) (fun c7 => ?_)
  · have hw := hw.1 c7
    refine a_iload_5 (pc := 724) C dL_law_724 ?_
    refine a_if_ne (pc := 726) C 741 dL_law_726 (by decide) (fun c8 => ?_) (fun c8 => ?_)
    · have hw := hw.1 c8
      refine a_goto (pc := 741) C 2827 dL_law_741 (by decide) ?_
      exact a_weak (a_le_some (a_le_some (a_le_some (a_le_some (a_le_some (a_le_none (a_le_none (a_le_none (a_le_none a_le_nil))))))))) (hKx _ hw)
    · have hw := hw.2 c8
      refine a_aload_3 (pc := 729) C dL_law_729 ?_
      refine a_iconst (pc := 730) C dL_law_730 ic_0 ?_
      obtain ⟨n9, f10, y1, y2, hw⟩ := hw
      refine l_laload (pc := 731) C y1 y2 dL_law_731 ?_
      refine a_iload_6 (pc := 732) C dL_law_732 ?_
      refine a_i2l (pc := 734) C dL_law_734 ?_
      refine a_lcmp (pc := 735) C dL_law_735 ?_
      refine a_if_eq (pc := 736) C 741 dL_law_736 (by decide) (fun c11 => ?_) (fun c11 => ?_)
      · have hw := hw.1 c11
        refine a_goto (pc := 741) C 2827 dL_law_741 (by decide) ?_
        exact a_weak (a_le_some (a_le_some (a_le_some (a_le_some (a_le_some (a_le_none (a_le_none (a_le_none (a_le_none a_le_nil))))))))) (hKx _ hw)
      · have hw := hw.2 c11
        refine a_iconst (pc := 739) C dL_law_739 ic_0 ?_
        exact False.elim hw
  · have hw := hw.2 c7
    refine a_iconst (pc := 722) C dL_law_722 ic_0 ?_
    exact False.elim hw
def wp_law_8 (G : aG) (xs : Nat → Int32) (L9 x out : Nat) (i : Int32) (s0 : LWS) (Kx : LWS → Prop) : Prop := (vp_in (i + 1) L9 ∧ (vp_in (i + 2) L9 ∧ (5000 ≤ s0.1.2.2.1 ∧ wp_X0_setDew x (xs (i + 1).toNatClampNeg) (xs (i + 2).toNatClampNeg) out (oXs s0.1 5000) (fun v2 σ1 => ∀ s1 : LWS, s1 = (oXs σ1 (s0.1.2.2.1 - 5000), s0.2) → (vp_in (i + 1) L9 ∧ (vp_in (i + 2) L9 ∧ wp_X6_setDew (xs (i + 1).toNatClampNeg) (xs (i + 2).toNatClampNeg) s1.2 (fun v4 μ1 => ∀ s3 : LWS, s3 = (s1.1, μ1) → wp_X6_thrown s3.2 (fun v6 μ1 => ∀ s5 : LWS, s5 = (s3.1, μ1) → (((v6 = v2) → (((¬ v2 = 0) → (Kx s5)) ∧ ((v2 = 0) → (∃ (n9 : Nat) (f10 : Nat → Int64), s5.1.1 out = some (.inl (1, n9, .inr (.inl f10))) ∧ vp_in 0 n9 ∧ ((((lg_cmp (f10 (0 : Int32).toNatClampNeg) (v4.toInt64)) = 0) → (Kx s5)) ∧ ((¬ (lg_cmp (f10 (0 : Int32).toNatClampNeg) (v4.toInt64)) = 0) → False)))))) ∧ ((¬ v6 = v2) → False))))))) (fun _ _ => False))))
set_option maxHeartbeats 4000000 in
theorem law_8 {G : aG} {p : Program} {l : Launch} {e : Env} {s : State} {m : MethodId} {args : Array Value} {below : List Frame} {meth : Method} {c : Code} {A : Nat → Prop} {rt : Option FieldType} {Q : State → Prop} {nm : String} {KL n0 u0 mo b L9 x out : Nat} {xs : Nat → Int32} (C : Cx G p l s m args meth c A (yL nm) cL_law 9 rt) (hs : s.heap.size = n0 ∧ slT s.heap = u0) (hX : va_X b L9 xs s s.heap) (hbA : ¬ A b) (i : Int32) (s0 : LWS) (Kx : LWS → Prop) (hKx : ∀ s1 : LWS, Kx s1 → AW G p l e (aRm 200 KL (10 * KL)) s m args below meth c A 9 Q (LW n0 u0 KL mo s1.1 s1.2) 2827 [some (.ref b), some (.ref x), some (.ref mo), some (.ref out), some (.int i), none, none, none, none] []) (hw : wp_law_8 G xs L9 x out i s0 Kx) : AW G p l e (aRm 200 KL (10 * KL)) s m args below meth c A 9 Q (LW n0 u0 KL mo s0.1 s0.2) 744 [some (.ref b), some (.ref x), some (.ref mo), some (.ref out), some (.int i), none, none, none, none] [] := by
  unfold wp_law_8 at hw
  refine a_aload_1 (pc := 744) C dL_law_744 ?_
  refine a_aload_0 (pc := 745) C dL_law_745 ?_
  refine a_iload_4 (pc := 746) C dL_law_746 ?_
  refine a_iconst (pc := 748) C dL_law_748 ic_1 ?_
  refine a_iadd (pc := 749) C dL_law_749 ?_
  refine a_xald (pc := 750) C hX hbA hw.1 dL_law_750 ?_
  have hw := hw.2
  refine a_aload_0 (pc := 751) C dL_law_751 ?_
  refine a_iload_4 (pc := 752) C dL_law_752 ?_
  refine a_iconst (pc := 754) C dL_law_754 ic_2 ?_
  refine a_iadd (pc := 755) C dL_law_755 ?_
  refine a_xald (pc := 756) C hX hbA hw.1 dL_law_756 ?_
  have hw := hw.2
  refine a_aload_3 (pc := 757) C dL_law_757 ?_
  refine l_callSW (pc := 758) C hs [.ref x, .int (xs (i + 1).toNatClampNeg), .int (xs (i + 2).toNatClampNeg), .ref out] (st := []) 5000 hw.1 (fun h n u hB => ct_X0_setDew l G _ _ _ _ (lE mo) _ _ _ hw.2 h n u hB) (by decide) (by decide) (lw_SW q1430 q1431 q64 q1432) sg_X0_setDew (Nat.le_of_ble_eq_true rfl) dL_law_758 (fun v2 σ1 hw => l_top (fun s1 es1 => ?_))
  have hw := hw s1 es1
  refine a_istore_5 (pc := 761) C dL_law_761 (by decide) rfl ?_
  refine a_aload_2 (pc := 763) C dL_law_763 ?_
  refine a_aload_0 (pc := 764) C dL_law_764 ?_
  refine a_iload_4 (pc := 765) C dL_law_765 ?_
  refine a_iconst (pc := 767) C dL_law_767 ic_1 ?_
  refine a_iadd (pc := 768) C dL_law_768 ?_
  refine a_xald (pc := 769) C hX hbA hw.1 dL_law_769 ?_
  have hw := hw.2
  refine a_aload_0 (pc := 770) C dL_law_770 ?_
  refine a_iload_4 (pc := 771) C dL_law_771 ?_
  refine a_iconst (pc := 773) C dL_law_773 ic_2 ?_
  refine a_iadd (pc := 774) C dL_law_774 ?_
  refine a_xald (pc := 775) C hX hbA hw.1 dL_law_775 ?_
  have hw := hw.2
  refine l_callMi (pc := 776) C hs [.int (xs (i + 1).toNatClampNeg), .int (xs (i + 2).toNatClampNeg)] (st := []) (fun h n u hV => ct_X6_setDew l G _ _ _ _ _ hw h n u hV) (by decide) (by decide) rfl q77 q1945 q1946 q1947 (lw_meth q1948) sg_X6_setDew (Nat.le_of_ble_eq_true rfl) dL_law_776 (fun v4 μ1 hw => l_top (fun s3 es3 => ?_))
  have hw := hw s3 es3
  refine a_istore_6 (pc := 779) C dL_law_779 (by decide) rfl ?_
  refine a_aload_2 (pc := 781) C dL_law_781 ?_
  refine l_callMi (pc := 782) C hs [] (st := []) (fun h n u hV => ct_X6_thrown l G _ _ _ hw h n u hV) (by decide) (by decide) rfl q77 q1786 q1787 q1788 (lw_meth q1789) sg_X6_thrown (Nat.le_of_ble_eq_true rfl) dL_law_782 (fun v6 μ1 hw => l_top (fun s5 es5 => ?_))
  have hw := hw s5 es5
  refine a_iload_5 (pc := 785) C dL_law_785 ?_
  refine a_icmp_eq (pc := 787) C 792 dL_law_787 (by decide) (fun c7 => ?_) (fun c7 => ?_)
  · have hw := hw.1 c7
    refine a_iload_5 (pc := 792) C dL_law_792 ?_
    refine a_if_ne (pc := 794) C 809 dL_law_794 (by decide) (fun c8 => ?_) (fun c8 => ?_)
    · have hw := hw.1 c8
      refine a_goto (pc := 809) C 2827 dL_law_809 (by decide) ?_
      exact a_weak (a_le_some (a_le_some (a_le_some (a_le_some (a_le_some (a_le_none (a_le_none (a_le_none (a_le_none a_le_nil))))))))) (hKx _ hw)
    · have hw := hw.2 c8
      refine a_aload_3 (pc := 797) C dL_law_797 ?_
      refine a_iconst (pc := 798) C dL_law_798 ic_0 ?_
      obtain ⟨n9, f10, y1, y2, hw⟩ := hw
      refine l_laload (pc := 799) C y1 y2 dL_law_799 ?_
      refine a_iload_6 (pc := 800) C dL_law_800 ?_
      refine a_i2l (pc := 802) C dL_law_802 ?_
      refine a_lcmp (pc := 803) C dL_law_803 ?_
      refine a_if_eq (pc := 804) C 809 dL_law_804 (by decide) (fun c11 => ?_) (fun c11 => ?_)
      · have hw := hw.1 c11
        refine a_goto (pc := 809) C 2827 dL_law_809 (by decide) ?_
        exact a_weak (a_le_some (a_le_some (a_le_some (a_le_some (a_le_some (a_le_none (a_le_none (a_le_none (a_le_none a_le_nil))))))))) (hKx _ hw)
      · have hw := hw.2 c11
        refine a_iconst (pc := 807) C dL_law_807 ic_0 ?_
        exact False.elim hw
  · have hw := hw.2 c7
    refine a_iconst (pc := 790) C dL_law_790 ic_0 ?_
    exact False.elim hw
def wp_law_9 (G : aG) (xs : Nat → Int32) (L9 x out : Nat) (i : Int32) (s0 : LWS) (Kx : LWS → Prop) : Prop := (vp_in (i + 1) L9 ∧ (vp_in (i + 2) L9 ∧ (5000 ≤ s0.1.2.2.1 ∧ wp_X0_setTurn x (xs (i + 1).toNatClampNeg) (xs (i + 2).toNatClampNeg) out (oXs s0.1 5000) (fun v2 σ1 => ∀ s1 : LWS, s1 = (oXs σ1 (s0.1.2.2.1 - 5000), s0.2) → (vp_in (i + 1) L9 ∧ (vp_in (i + 2) L9 ∧ wp_X6_setTurn (xs (i + 1).toNatClampNeg) (xs (i + 2).toNatClampNeg) s1.2 (fun v4 μ1 => ∀ s3 : LWS, s3 = (s1.1, μ1) → wp_X6_thrown s3.2 (fun v6 μ1 => ∀ s5 : LWS, s5 = (s3.1, μ1) → (((v6 = v2) → (((¬ v2 = 0) → (Kx s5)) ∧ ((v2 = 0) → (∃ (n9 : Nat) (f10 : Nat → Int64), s5.1.1 out = some (.inl (1, n9, .inr (.inl f10))) ∧ vp_in 0 n9 ∧ ((((lg_cmp (f10 (0 : Int32).toNatClampNeg) (v4.toInt64)) = 0) → (Kx s5)) ∧ ((¬ (lg_cmp (f10 (0 : Int32).toNatClampNeg) (v4.toInt64)) = 0) → False)))))) ∧ ((¬ v6 = v2) → False))))))) (fun _ _ => False))))
set_option maxHeartbeats 4000000 in
theorem law_9 {G : aG} {p : Program} {l : Launch} {e : Env} {s : State} {m : MethodId} {args : Array Value} {below : List Frame} {meth : Method} {c : Code} {A : Nat → Prop} {rt : Option FieldType} {Q : State → Prop} {nm : String} {KL n0 u0 mo b L9 x out : Nat} {xs : Nat → Int32} (C : Cx G p l s m args meth c A (yL nm) cL_law 9 rt) (hs : s.heap.size = n0 ∧ slT s.heap = u0) (hX : va_X b L9 xs s s.heap) (hbA : ¬ A b) (i : Int32) (s0 : LWS) (Kx : LWS → Prop) (hKx : ∀ s1 : LWS, Kx s1 → AW G p l e (aRm 200 KL (10 * KL)) s m args below meth c A 9 Q (LW n0 u0 KL mo s1.1 s1.2) 2827 [some (.ref b), some (.ref x), some (.ref mo), some (.ref out), some (.int i), none, none, none, none] []) (hw : wp_law_9 G xs L9 x out i s0 Kx) : AW G p l e (aRm 200 KL (10 * KL)) s m args below meth c A 9 Q (LW n0 u0 KL mo s0.1 s0.2) 812 [some (.ref b), some (.ref x), some (.ref mo), some (.ref out), some (.int i), none, none, none, none] [] := by
  unfold wp_law_9 at hw
  refine a_aload_1 (pc := 812) C dL_law_812 ?_
  refine a_aload_0 (pc := 813) C dL_law_813 ?_
  refine a_iload_4 (pc := 814) C dL_law_814 ?_
  refine a_iconst (pc := 816) C dL_law_816 ic_1 ?_
  refine a_iadd (pc := 817) C dL_law_817 ?_
  refine a_xald (pc := 818) C hX hbA hw.1 dL_law_818 ?_
  have hw := hw.2
  refine a_aload_0 (pc := 819) C dL_law_819 ?_
  refine a_iload_4 (pc := 820) C dL_law_820 ?_
  refine a_iconst (pc := 822) C dL_law_822 ic_2 ?_
  refine a_iadd (pc := 823) C dL_law_823 ?_
  refine a_xald (pc := 824) C hX hbA hw.1 dL_law_824 ?_
  have hw := hw.2
  refine a_aload_3 (pc := 825) C dL_law_825 ?_
  refine l_callSW (pc := 826) C hs [.ref x, .int (xs (i + 1).toNatClampNeg), .int (xs (i + 2).toNatClampNeg), .ref out] (st := []) 5000 hw.1 (fun h n u hB => ct_X0_setTurn l G _ _ _ _ (lE mo) _ _ _ hw.2 h n u hB) (by decide) (by decide) (lw_SW q1437 q1438 q64 q1439) sg_X0_setTurn (Nat.le_of_ble_eq_true rfl) dL_law_826 (fun v2 σ1 hw => l_top (fun s1 es1 => ?_))
  have hw := hw s1 es1
  refine a_istore_5 (pc := 829) C dL_law_829 (by decide) rfl ?_
  refine a_aload_2 (pc := 831) C dL_law_831 ?_
  refine a_aload_0 (pc := 832) C dL_law_832 ?_
  refine a_iload_4 (pc := 833) C dL_law_833 ?_
  refine a_iconst (pc := 835) C dL_law_835 ic_1 ?_
  refine a_iadd (pc := 836) C dL_law_836 ?_
  refine a_xald (pc := 837) C hX hbA hw.1 dL_law_837 ?_
  have hw := hw.2
  refine a_aload_0 (pc := 838) C dL_law_838 ?_
  refine a_iload_4 (pc := 839) C dL_law_839 ?_
  refine a_iconst (pc := 841) C dL_law_841 ic_2 ?_
  refine a_iadd (pc := 842) C dL_law_842 ?_
  refine a_xald (pc := 843) C hX hbA hw.1 dL_law_843 ?_
  have hw := hw.2
  refine l_callMi (pc := 844) C hs [.int (xs (i + 1).toNatClampNeg), .int (xs (i + 2).toNatClampNeg)] (st := []) (fun h n u hV => ct_X6_setTurn l G _ _ _ _ _ hw h n u hV) (by decide) (by decide) rfl q77 q1949 q1950 q1951 (lw_meth q1952) sg_X6_setTurn (Nat.le_of_ble_eq_true rfl) dL_law_844 (fun v4 μ1 hw => l_top (fun s3 es3 => ?_))
  have hw := hw s3 es3
  refine a_istore_6 (pc := 847) C dL_law_847 (by decide) rfl ?_
  refine a_aload_2 (pc := 849) C dL_law_849 ?_
  refine l_callMi (pc := 850) C hs [] (st := []) (fun h n u hV => ct_X6_thrown l G _ _ _ hw h n u hV) (by decide) (by decide) rfl q77 q1786 q1787 q1788 (lw_meth q1789) sg_X6_thrown (Nat.le_of_ble_eq_true rfl) dL_law_850 (fun v6 μ1 hw => l_top (fun s5 es5 => ?_))
  have hw := hw s5 es5
  refine a_iload_5 (pc := 853) C dL_law_853 ?_
  refine a_icmp_eq (pc := 855) C 860 dL_law_855 (by decide) (fun c7 => ?_) (fun c7 => ?_)
  · have hw := hw.1 c7
    refine a_iload_5 (pc := 860) C dL_law_860 ?_
    refine a_if_ne (pc := 862) C 877 dL_law_862 (by decide) (fun c8 => ?_) (fun c8 => ?_)
    · have hw := hw.1 c8
      refine a_goto (pc := 877) C 2827 dL_law_877 (by decide) ?_
      exact a_weak (a_le_some (a_le_some (a_le_some (a_le_some (a_le_some (a_le_none (a_le_none (a_le_none (a_le_none a_le_nil))))))))) (hKx _ hw)
    · have hw := hw.2 c8
      refine a_aload_3 (pc := 865) C dL_law_865 ?_
      refine a_iconst (pc := 866) C dL_law_866 ic_0 ?_
      obtain ⟨n9, f10, y1, y2, hw⟩ := hw
      refine l_laload (pc := 867) C y1 y2 dL_law_867 ?_
      refine a_iload_6 (pc := 868) C dL_law_868 ?_
      refine a_i2l (pc := 870) C dL_law_870 ?_
      refine a_lcmp (pc := 871) C dL_law_871 ?_
      refine a_if_eq (pc := 872) C 877 dL_law_872 (by decide) (fun c11 => ?_) (fun c11 => ?_)
      · have hw := hw.1 c11
        refine a_goto (pc := 877) C 2827 dL_law_877 (by decide) ?_
        exact a_weak (a_le_some (a_le_some (a_le_some (a_le_some (a_le_some (a_le_none (a_le_none (a_le_none (a_le_none a_le_nil))))))))) (hKx _ hw)
      · have hw := hw.2 c11
        refine a_iconst (pc := 875) C dL_law_875 ic_0 ?_
        exact False.elim hw
  · have hw := hw.2 c7
    refine a_iconst (pc := 858) C dL_law_858 ic_0 ?_
    exact False.elim hw
def wp_law_10 (G : aG) (xs : Nat → Int32) (L9 x out : Nat) (i : Int32) (s0 : LWS) (Kx : LWS → Prop) : Prop := (vp_in (i + 1) L9 ∧ (vp_in (i + 2) L9 ∧ (5000 ≤ s0.1.2.2.1 ∧ wp_X0_setHeats x (xs (i + 1).toNatClampNeg) (xs (i + 2).toNatClampNeg) out (oXs s0.1 5000) (fun v2 σ1 => ∀ s1 : LWS, s1 = (oXs σ1 (s0.1.2.2.1 - 5000), s0.2) → (vp_in (i + 1) L9 ∧ (vp_in (i + 2) L9 ∧ wp_X6_setHeats (xs (i + 1).toNatClampNeg) (xs (i + 2).toNatClampNeg) s1.2 (fun v4 μ1 => ∀ s3 : LWS, s3 = (s1.1, μ1) → wp_X6_thrown s3.2 (fun v6 μ1 => ∀ s5 : LWS, s5 = (s3.1, μ1) → (((v6 = v2) → (((¬ v2 = 0) → (Kx s5)) ∧ ((v2 = 0) → (∃ (n9 : Nat) (f10 : Nat → Int64), s5.1.1 out = some (.inl (1, n9, .inr (.inl f10))) ∧ vp_in 0 n9 ∧ ((((lg_cmp (f10 (0 : Int32).toNatClampNeg) (v4.toInt64)) = 0) → (Kx s5)) ∧ ((¬ (lg_cmp (f10 (0 : Int32).toNatClampNeg) (v4.toInt64)) = 0) → False)))))) ∧ ((¬ v6 = v2) → False))))))) (fun _ _ => False))))
set_option maxHeartbeats 4000000 in
theorem law_10 {G : aG} {p : Program} {l : Launch} {e : Env} {s : State} {m : MethodId} {args : Array Value} {below : List Frame} {meth : Method} {c : Code} {A : Nat → Prop} {rt : Option FieldType} {Q : State → Prop} {nm : String} {KL n0 u0 mo b L9 x out : Nat} {xs : Nat → Int32} (C : Cx G p l s m args meth c A (yL nm) cL_law 9 rt) (hs : s.heap.size = n0 ∧ slT s.heap = u0) (hX : va_X b L9 xs s s.heap) (hbA : ¬ A b) (i : Int32) (s0 : LWS) (Kx : LWS → Prop) (hKx : ∀ s1 : LWS, Kx s1 → AW G p l e (aRm 200 KL (10 * KL)) s m args below meth c A 9 Q (LW n0 u0 KL mo s1.1 s1.2) 2827 [some (.ref b), some (.ref x), some (.ref mo), some (.ref out), some (.int i), none, none, none, none] []) (hw : wp_law_10 G xs L9 x out i s0 Kx) : AW G p l e (aRm 200 KL (10 * KL)) s m args below meth c A 9 Q (LW n0 u0 KL mo s0.1 s0.2) 880 [some (.ref b), some (.ref x), some (.ref mo), some (.ref out), some (.int i), none, none, none, none] [] := by
  unfold wp_law_10 at hw
  refine a_aload_1 (pc := 880) C dL_law_880 ?_
  refine a_aload_0 (pc := 881) C dL_law_881 ?_
  refine a_iload_4 (pc := 882) C dL_law_882 ?_
  refine a_iconst (pc := 884) C dL_law_884 ic_1 ?_
  refine a_iadd (pc := 885) C dL_law_885 ?_
  refine a_xald (pc := 886) C hX hbA hw.1 dL_law_886 ?_
  have hw := hw.2
  refine a_aload_0 (pc := 887) C dL_law_887 ?_
  refine a_iload_4 (pc := 888) C dL_law_888 ?_
  refine a_iconst (pc := 890) C dL_law_890 ic_2 ?_
  refine a_iadd (pc := 891) C dL_law_891 ?_
  refine a_xald (pc := 892) C hX hbA hw.1 dL_law_892 ?_
  have hw := hw.2
  refine a_aload_3 (pc := 893) C dL_law_893 ?_
  refine l_callSW (pc := 894) C hs [.ref x, .int (xs (i + 1).toNatClampNeg), .int (xs (i + 2).toNatClampNeg), .ref out] (st := []) 5000 hw.1 (fun h n u hB => ct_X0_setHeats l G _ _ _ _ (lE mo) _ _ _ hw.2 h n u hB) (by decide) (by decide) (lw_SW q1444 q1445 q64 q1446) sg_X0_setHeats (Nat.le_of_ble_eq_true rfl) dL_law_894 (fun v2 σ1 hw => l_top (fun s1 es1 => ?_))
  have hw := hw s1 es1
  refine a_istore_5 (pc := 897) C dL_law_897 (by decide) rfl ?_
  refine a_aload_2 (pc := 899) C dL_law_899 ?_
  refine a_aload_0 (pc := 900) C dL_law_900 ?_
  refine a_iload_4 (pc := 901) C dL_law_901 ?_
  refine a_iconst (pc := 903) C dL_law_903 ic_1 ?_
  refine a_iadd (pc := 904) C dL_law_904 ?_
  refine a_xald (pc := 905) C hX hbA hw.1 dL_law_905 ?_
  have hw := hw.2
  refine a_aload_0 (pc := 906) C dL_law_906 ?_
  refine a_iload_4 (pc := 907) C dL_law_907 ?_
  refine a_iconst (pc := 909) C dL_law_909 ic_2 ?_
  refine a_iadd (pc := 910) C dL_law_910 ?_
  refine a_xald (pc := 911) C hX hbA hw.1 dL_law_911 ?_
  have hw := hw.2
  refine l_callMi (pc := 912) C hs [.int (xs (i + 1).toNatClampNeg), .int (xs (i + 2).toNatClampNeg)] (st := []) (fun h n u hV => ct_X6_setHeats l G _ _ _ _ _ hw h n u hV) (by decide) (by decide) rfl q77 q1953 q1954 q1955 (lw_meth q1956) sg_X6_setHeats (Nat.le_of_ble_eq_true rfl) dL_law_912 (fun v4 μ1 hw => l_top (fun s3 es3 => ?_))
  have hw := hw s3 es3
  refine a_istore_6 (pc := 915) C dL_law_915 (by decide) rfl ?_
  refine a_aload_2 (pc := 917) C dL_law_917 ?_
  refine l_callMi (pc := 918) C hs [] (st := []) (fun h n u hV => ct_X6_thrown l G _ _ _ hw h n u hV) (by decide) (by decide) rfl q77 q1786 q1787 q1788 (lw_meth q1789) sg_X6_thrown (Nat.le_of_ble_eq_true rfl) dL_law_918 (fun v6 μ1 hw => l_top (fun s5 es5 => ?_))
  have hw := hw s5 es5
  refine a_iload_5 (pc := 921) C dL_law_921 ?_
  refine a_icmp_eq (pc := 923) C 928 dL_law_923 (by decide) (fun c7 => ?_) (fun c7 => ?_)
  · have hw := hw.1 c7
    refine a_iload_5 (pc := 928) C dL_law_928 ?_
    refine a_if_ne (pc := 930) C 945 dL_law_930 (by decide) (fun c8 => ?_) (fun c8 => ?_)
    · have hw := hw.1 c8
      refine a_goto (pc := 945) C 2827 dL_law_945 (by decide) ?_
      exact a_weak (a_le_some (a_le_some (a_le_some (a_le_some (a_le_some (a_le_none (a_le_none (a_le_none (a_le_none a_le_nil))))))))) (hKx _ hw)
    · have hw := hw.2 c8
      refine a_aload_3 (pc := 933) C dL_law_933 ?_
      refine a_iconst (pc := 934) C dL_law_934 ic_0 ?_
      obtain ⟨n9, f10, y1, y2, hw⟩ := hw
      refine l_laload (pc := 935) C y1 y2 dL_law_935 ?_
      refine a_iload_6 (pc := 936) C dL_law_936 ?_
      refine a_i2l (pc := 938) C dL_law_938 ?_
      refine a_lcmp (pc := 939) C dL_law_939 ?_
      refine a_if_eq (pc := 940) C 945 dL_law_940 (by decide) (fun c11 => ?_) (fun c11 => ?_)
      · have hw := hw.1 c11
        refine a_goto (pc := 945) C 2827 dL_law_945 (by decide) ?_
        exact a_weak (a_le_some (a_le_some (a_le_some (a_le_some (a_le_some (a_le_none (a_le_none (a_le_none (a_le_none a_le_nil))))))))) (hKx _ hw)
      · have hw := hw.2 c11
        refine a_iconst (pc := 943) C dL_law_943 ic_0 ?_
        exact False.elim hw
  · have hw := hw.2 c7
    refine a_iconst (pc := 926) C dL_law_926 ic_0 ?_
    exact False.elim hw
def wp_law_11 (G : aG) (xs : Nat → Int32) (L9 x out : Nat) (i : Int32) (s0 : LWS) (Kx : LWS → Prop) : Prop := (vp_in (i + 1) L9 ∧ (5000 ≤ s0.1.2.2.1 ∧ wp_X0_setSprays x (xs (i + 1).toNatClampNeg) out (oXs s0.1 5000) (fun v2 σ1 => ∀ s1 : LWS, s1 = (oXs σ1 (s0.1.2.2.1 - 5000), s0.2) → (vp_in (i + 1) L9 ∧ wp_X6_setSprays (xs (i + 1).toNatClampNeg) s1.2 (fun v4 μ1 => ∀ s3 : LWS, s3 = (s1.1, μ1) → wp_X6_thrown s3.2 (fun v6 μ1 => ∀ s5 : LWS, s5 = (s3.1, μ1) → (((v6 = v2) → (((¬ v2 = 0) → (Kx s5)) ∧ ((v2 = 0) → (∃ (n9 : Nat) (f10 : Nat → Int64), s5.1.1 out = some (.inl (1, n9, .inr (.inl f10))) ∧ vp_in 0 n9 ∧ ((((lg_cmp (f10 (0 : Int32).toNatClampNeg) (v4.toInt64)) = 0) → (Kx s5)) ∧ ((¬ (lg_cmp (f10 (0 : Int32).toNatClampNeg) (v4.toInt64)) = 0) → False)))))) ∧ ((¬ v6 = v2) → False)))))) (fun _ _ => False)))
set_option maxHeartbeats 4000000 in
theorem law_11 {G : aG} {p : Program} {l : Launch} {e : Env} {s : State} {m : MethodId} {args : Array Value} {below : List Frame} {meth : Method} {c : Code} {A : Nat → Prop} {rt : Option FieldType} {Q : State → Prop} {nm : String} {KL n0 u0 mo b L9 x out : Nat} {xs : Nat → Int32} (C : Cx G p l s m args meth c A (yL nm) cL_law 9 rt) (hs : s.heap.size = n0 ∧ slT s.heap = u0) (hX : va_X b L9 xs s s.heap) (hbA : ¬ A b) (i : Int32) (s0 : LWS) (Kx : LWS → Prop) (hKx : ∀ s1 : LWS, Kx s1 → AW G p l e (aRm 200 KL (10 * KL)) s m args below meth c A 9 Q (LW n0 u0 KL mo s1.1 s1.2) 2827 [some (.ref b), some (.ref x), some (.ref mo), some (.ref out), some (.int i), none, none, none, none] []) (hw : wp_law_11 G xs L9 x out i s0 Kx) : AW G p l e (aRm 200 KL (10 * KL)) s m args below meth c A 9 Q (LW n0 u0 KL mo s0.1 s0.2) 948 [some (.ref b), some (.ref x), some (.ref mo), some (.ref out), some (.int i), none, none, none, none] [] := by
  unfold wp_law_11 at hw
  refine a_aload_1 (pc := 948) C dL_law_948 ?_
  refine a_aload_0 (pc := 949) C dL_law_949 ?_
  refine a_iload_4 (pc := 950) C dL_law_950 ?_
  refine a_iconst (pc := 952) C dL_law_952 ic_1 ?_
  refine a_iadd (pc := 953) C dL_law_953 ?_
  refine a_xald (pc := 954) C hX hbA hw.1 dL_law_954 ?_
  have hw := hw.2
  refine a_aload_3 (pc := 955) C dL_law_955 ?_
  refine l_callSW (pc := 956) C hs [.ref x, .int (xs (i + 1).toNatClampNeg), .ref out] (st := []) 5000 hw.1 (fun h n u hB => ct_X0_setSprays l G _ _ _ (lE mo) _ _ _ hw.2 h n u hB) (by decide) (by decide) (lw_SW q1451 q1452 q64 q1453) sg_X0_setSprays (Nat.le_of_ble_eq_true rfl) dL_law_956 (fun v2 σ1 hw => l_top (fun s1 es1 => ?_))
  have hw := hw s1 es1
  refine a_istore_5 (pc := 959) C dL_law_959 (by decide) rfl ?_
  refine a_aload_2 (pc := 961) C dL_law_961 ?_
  refine a_aload_0 (pc := 962) C dL_law_962 ?_
  refine a_iload_4 (pc := 963) C dL_law_963 ?_
  refine a_iconst (pc := 965) C dL_law_965 ic_1 ?_
  refine a_iadd (pc := 966) C dL_law_966 ?_
  refine a_xald (pc := 967) C hX hbA hw.1 dL_law_967 ?_
  have hw := hw.2
  refine l_callMi (pc := 968) C hs [.int (xs (i + 1).toNatClampNeg)] (st := []) (fun h n u hV => ct_X6_setSprays l G _ _ _ _ hw h n u hV) (by decide) (by decide) rfl q77 q1957 q1958 q1959 (lw_meth q1960) sg_X6_setSprays (Nat.le_of_ble_eq_true rfl) dL_law_968 (fun v4 μ1 hw => l_top (fun s3 es3 => ?_))
  have hw := hw s3 es3
  refine a_istore_6 (pc := 971) C dL_law_971 (by decide) rfl ?_
  refine a_aload_2 (pc := 973) C dL_law_973 ?_
  refine l_callMi (pc := 974) C hs [] (st := []) (fun h n u hV => ct_X6_thrown l G _ _ _ hw h n u hV) (by decide) (by decide) rfl q77 q1786 q1787 q1788 (lw_meth q1789) sg_X6_thrown (Nat.le_of_ble_eq_true rfl) dL_law_974 (fun v6 μ1 hw => l_top (fun s5 es5 => ?_))
  have hw := hw s5 es5
  refine a_iload_5 (pc := 977) C dL_law_977 ?_
  refine a_icmp_eq (pc := 979) C 984 dL_law_979 (by decide) (fun c7 => ?_) (fun c7 => ?_)
  · have hw := hw.1 c7
    refine a_iload_5 (pc := 984) C dL_law_984 ?_
    refine a_if_ne (pc := 986) C 1001 dL_law_986 (by decide) (fun c8 => ?_) (fun c8 => ?_)
    · have hw := hw.1 c8
      refine a_goto (pc := 1001) C 2827 dL_law_1001 (by decide) ?_
      exact a_weak (a_le_some (a_le_some (a_le_some (a_le_some (a_le_some (a_le_none (a_le_none (a_le_none (a_le_none a_le_nil))))))))) (hKx _ hw)
    · have hw := hw.2 c8
      refine a_aload_3 (pc := 989) C dL_law_989 ?_
      refine a_iconst (pc := 990) C dL_law_990 ic_0 ?_
      obtain ⟨n9, f10, y1, y2, hw⟩ := hw
      refine l_laload (pc := 991) C y1 y2 dL_law_991 ?_
      refine a_iload_6 (pc := 992) C dL_law_992 ?_
      refine a_i2l (pc := 994) C dL_law_994 ?_
      refine a_lcmp (pc := 995) C dL_law_995 ?_
      refine a_if_eq (pc := 996) C 1001 dL_law_996 (by decide) (fun c11 => ?_) (fun c11 => ?_)
      · have hw := hw.1 c11
        refine a_goto (pc := 1001) C 2827 dL_law_1001 (by decide) ?_
        exact a_weak (a_le_some (a_le_some (a_le_some (a_le_some (a_le_some (a_le_none (a_le_none (a_le_none (a_le_none a_le_nil))))))))) (hKx _ hw)
      · have hw := hw.2 c11
        refine a_iconst (pc := 999) C dL_law_999 ic_0 ?_
        exact False.elim hw
  · have hw := hw.2 c7
    refine a_iconst (pc := 982) C dL_law_982 ic_0 ?_
    exact False.elim hw
def wp_law_12 (G : aG) (xs : Nat → Int32) (L9 x out : Nat) (i : Int32) (s0 : LWS) (Kx : LWS → Prop) : Prop := (vp_in (i + 1) L9 ∧ (5000 ≤ s0.1.2.2.1 ∧ wp_X0_pass x (xs (i + 1).toNatClampNeg) out (oXs s0.1 5000) (fun v2 σ1 => ∀ s1 : LWS, s1 = (oXs σ1 (s0.1.2.2.1 - 5000), s0.2) → (vp_in (i + 1) L9 ∧ wp_X6_pass (xs (i + 1).toNatClampNeg) s1.2 (fun v4 μ1 => ∀ s3 : LWS, s3 = (s1.1, μ1) → wp_X6_thrown s3.2 (fun v6 μ1 => ∀ s5 : LWS, s5 = (s3.1, μ1) → (((v6 = v2) → (((¬ v2 = 0) → (Kx s5)) ∧ ((v2 = 0) → (∃ (n9 : Nat) (f10 : Nat → Int64), s5.1.1 out = some (.inl (1, n9, .inr (.inl f10))) ∧ vp_in 0 n9 ∧ ((((lg_cmp (f10 (0 : Int32).toNatClampNeg) (v4.toInt64)) = 0) → (Kx s5)) ∧ ((¬ (lg_cmp (f10 (0 : Int32).toNatClampNeg) (v4.toInt64)) = 0) → False)))))) ∧ ((¬ v6 = v2) → False)))))) (fun _ _ => False)))
set_option maxHeartbeats 4000000 in
theorem law_12 {G : aG} {p : Program} {l : Launch} {e : Env} {s : State} {m : MethodId} {args : Array Value} {below : List Frame} {meth : Method} {c : Code} {A : Nat → Prop} {rt : Option FieldType} {Q : State → Prop} {nm : String} {KL n0 u0 mo b L9 x out : Nat} {xs : Nat → Int32} (C : Cx G p l s m args meth c A (yL nm) cL_law 9 rt) (hs : s.heap.size = n0 ∧ slT s.heap = u0) (hX : va_X b L9 xs s s.heap) (hbA : ¬ A b) (i : Int32) (s0 : LWS) (Kx : LWS → Prop) (hKx : ∀ s1 : LWS, Kx s1 → AW G p l e (aRm 200 KL (10 * KL)) s m args below meth c A 9 Q (LW n0 u0 KL mo s1.1 s1.2) 2827 [some (.ref b), some (.ref x), some (.ref mo), some (.ref out), some (.int i), none, none, none, none] []) (hw : wp_law_12 G xs L9 x out i s0 Kx) : AW G p l e (aRm 200 KL (10 * KL)) s m args below meth c A 9 Q (LW n0 u0 KL mo s0.1 s0.2) 1004 [some (.ref b), some (.ref x), some (.ref mo), some (.ref out), some (.int i), none, none, none, none] [] := by
  unfold wp_law_12 at hw
  refine a_aload_1 (pc := 1004) C dL_law_1004 ?_
  refine a_aload_0 (pc := 1005) C dL_law_1005 ?_
  refine a_iload_4 (pc := 1006) C dL_law_1006 ?_
  refine a_iconst (pc := 1008) C dL_law_1008 ic_1 ?_
  refine a_iadd (pc := 1009) C dL_law_1009 ?_
  refine a_xald (pc := 1010) C hX hbA hw.1 dL_law_1010 ?_
  have hw := hw.2
  refine a_aload_3 (pc := 1011) C dL_law_1011 ?_
  refine l_callSW (pc := 1012) C hs [.ref x, .int (xs (i + 1).toNatClampNeg), .ref out] (st := []) 5000 hw.1 (fun h n u hB => ct_X0_pass l G _ _ _ (lE mo) _ _ _ hw.2 h n u hB) (by decide) (by decide) (lw_SW q1458 q1459 q64 q1460) sg_X0_pass (Nat.le_of_ble_eq_true rfl) dL_law_1012 (fun v2 σ1 hw => l_top (fun s1 es1 => ?_))
  have hw := hw s1 es1
  refine a_istore_5 (pc := 1015) C dL_law_1015 (by decide) rfl ?_
  refine a_aload_2 (pc := 1017) C dL_law_1017 ?_
  refine a_aload_0 (pc := 1018) C dL_law_1018 ?_
  refine a_iload_4 (pc := 1019) C dL_law_1019 ?_
  refine a_iconst (pc := 1021) C dL_law_1021 ic_1 ?_
  refine a_iadd (pc := 1022) C dL_law_1022 ?_
  refine a_xald (pc := 1023) C hX hbA hw.1 dL_law_1023 ?_
  have hw := hw.2
  refine l_callMi (pc := 1024) C hs [.int (xs (i + 1).toNatClampNeg)] (st := []) (fun h n u hV => ct_X6_pass l G _ _ _ _ hw h n u hV) (by decide) (by decide) rfl q77 q1961 q1962 q1963 (lw_meth q1964) sg_X6_pass (Nat.le_of_ble_eq_true rfl) dL_law_1024 (fun v4 μ1 hw => l_top (fun s3 es3 => ?_))
  have hw := hw s3 es3
  refine a_istore_6 (pc := 1027) C dL_law_1027 (by decide) rfl ?_
  refine a_aload_2 (pc := 1029) C dL_law_1029 ?_
  refine l_callMi (pc := 1030) C hs [] (st := []) (fun h n u hV => ct_X6_thrown l G _ _ _ hw h n u hV) (by decide) (by decide) rfl q77 q1786 q1787 q1788 (lw_meth q1789) sg_X6_thrown (Nat.le_of_ble_eq_true rfl) dL_law_1030 (fun v6 μ1 hw => l_top (fun s5 es5 => ?_))
  have hw := hw s5 es5
  refine a_iload_5 (pc := 1033) C dL_law_1033 ?_
  refine a_icmp_eq (pc := 1035) C 1040 dL_law_1035 (by decide) (fun c7 => ?_) (fun c7 => ?_)
  · have hw := hw.1 c7
    refine a_iload_5 (pc := 1040) C dL_law_1040 ?_
    refine a_if_ne (pc := 1042) C 1057 dL_law_1042 (by decide) (fun c8 => ?_) (fun c8 => ?_)
    · have hw := hw.1 c8
      refine a_goto (pc := 1057) C 2827 dL_law_1057 (by decide) ?_
      exact a_weak (a_le_some (a_le_some (a_le_some (a_le_some (a_le_some (a_le_none (a_le_none (a_le_none (a_le_none a_le_nil))))))))) (hKx _ hw)
    · have hw := hw.2 c8
      refine a_aload_3 (pc := 1045) C dL_law_1045 ?_
      refine a_iconst (pc := 1046) C dL_law_1046 ic_0 ?_
      obtain ⟨n9, f10, y1, y2, hw⟩ := hw
      refine l_laload (pc := 1047) C y1 y2 dL_law_1047 ?_
      refine a_iload_6 (pc := 1048) C dL_law_1048 ?_
      refine a_i2l (pc := 1050) C dL_law_1050 ?_
      refine a_lcmp (pc := 1051) C dL_law_1051 ?_
      refine a_if_eq (pc := 1052) C 1057 dL_law_1052 (by decide) (fun c11 => ?_) (fun c11 => ?_)
      · have hw := hw.1 c11
        refine a_goto (pc := 1057) C 2827 dL_law_1057 (by decide) ?_
        exact a_weak (a_le_some (a_le_some (a_le_some (a_le_some (a_le_some (a_le_none (a_le_none (a_le_none (a_le_none a_le_nil))))))))) (hKx _ hw)
      · have hw := hw.2 c11
        refine a_iconst (pc := 1055) C dL_law_1055 ic_0 ?_
        exact False.elim hw
  · have hw := hw.2 c7
    refine a_iconst (pc := 1038) C dL_law_1038 ic_0 ?_
    exact False.elim hw
def wp_law_13 (G : aG) (xs : Nat → Int32) (L9 x out : Nat) (i : Int32) (s0 : LWS) (Kx : LWS → Prop) : Prop := (vp_in (i + 1) L9 ∧ (5000 ≤ s0.1.2.2.1 ∧ wp_X0_append x (xs (i + 1).toNatClampNeg) out (oXs s0.1 5000) (fun v2 σ1 => ∀ s1 : LWS, s1 = (oXs σ1 (s0.1.2.2.1 - 5000), s0.2) → (vp_in (i + 1) L9 ∧ wp_X6_append (xs (i + 1).toNatClampNeg) s1.2 (fun v4 μ1 => ∀ s3 : LWS, s3 = (s1.1, μ1) → wp_X6_thrown s3.2 (fun v6 μ1 => ∀ s5 : LWS, s5 = (s3.1, μ1) → (((v6 = v2) → (((¬ v2 = 0) → (Kx s5)) ∧ ((v2 = 0) → (∃ (n9 : Nat) (f10 : Nat → Int64), s5.1.1 out = some (.inl (1, n9, .inr (.inl f10))) ∧ vp_in 0 n9 ∧ ((((lg_cmp (f10 (0 : Int32).toNatClampNeg) (v4.toInt64)) = 0) → (Kx s5)) ∧ ((¬ (lg_cmp (f10 (0 : Int32).toNatClampNeg) (v4.toInt64)) = 0) → False)))))) ∧ ((¬ v6 = v2) → False)))))) (fun _ _ => False)))
set_option maxHeartbeats 4000000 in
theorem law_13 {G : aG} {p : Program} {l : Launch} {e : Env} {s : State} {m : MethodId} {args : Array Value} {below : List Frame} {meth : Method} {c : Code} {A : Nat → Prop} {rt : Option FieldType} {Q : State → Prop} {nm : String} {KL n0 u0 mo b L9 x out : Nat} {xs : Nat → Int32} (C : Cx G p l s m args meth c A (yL nm) cL_law 9 rt) (hs : s.heap.size = n0 ∧ slT s.heap = u0) (hX : va_X b L9 xs s s.heap) (hbA : ¬ A b) (i : Int32) (s0 : LWS) (Kx : LWS → Prop) (hKx : ∀ s1 : LWS, Kx s1 → AW G p l e (aRm 200 KL (10 * KL)) s m args below meth c A 9 Q (LW n0 u0 KL mo s1.1 s1.2) 2827 [some (.ref b), some (.ref x), some (.ref mo), some (.ref out), some (.int i), none, none, none, none] []) (hw : wp_law_13 G xs L9 x out i s0 Kx) : AW G p l e (aRm 200 KL (10 * KL)) s m args below meth c A 9 Q (LW n0 u0 KL mo s0.1 s0.2) 1060 [some (.ref b), some (.ref x), some (.ref mo), some (.ref out), some (.int i), none, none, none, none] [] := by
  unfold wp_law_13 at hw
  refine a_aload_1 (pc := 1060) C dL_law_1060 ?_
  refine a_aload_0 (pc := 1061) C dL_law_1061 ?_
  refine a_iload_4 (pc := 1062) C dL_law_1062 ?_
  refine a_iconst (pc := 1064) C dL_law_1064 ic_1 ?_
  refine a_iadd (pc := 1065) C dL_law_1065 ?_
  refine a_xald (pc := 1066) C hX hbA hw.1 dL_law_1066 ?_
  have hw := hw.2
  refine a_aload_3 (pc := 1067) C dL_law_1067 ?_
  refine l_callSW (pc := 1068) C hs [.ref x, .int (xs (i + 1).toNatClampNeg), .ref out] (st := []) 5000 hw.1 (fun h n u hB => ct_X0_append l G _ _ _ (lE mo) _ _ _ hw.2 h n u hB) (by decide) (by decide) (lw_SW q1470 q1471 q64 q1472) sg_X0_append (Nat.le_of_ble_eq_true rfl) dL_law_1068 (fun v2 σ1 hw => l_top (fun s1 es1 => ?_))
  have hw := hw s1 es1
  refine a_istore_5 (pc := 1071) C dL_law_1071 (by decide) rfl ?_
  refine a_aload_2 (pc := 1073) C dL_law_1073 ?_
  refine a_aload_0 (pc := 1074) C dL_law_1074 ?_
  refine a_iload_4 (pc := 1075) C dL_law_1075 ?_
  refine a_iconst (pc := 1077) C dL_law_1077 ic_1 ?_
  refine a_iadd (pc := 1078) C dL_law_1078 ?_
  refine a_xald (pc := 1079) C hX hbA hw.1 dL_law_1079 ?_
  have hw := hw.2
  refine l_callMi (pc := 1080) C hs [.int (xs (i + 1).toNatClampNeg)] (st := []) (fun h n u hV => ct_X6_append l G _ _ _ _ hw h n u hV) (by decide) (by decide) rfl q77 q1993 q1994 q1995 (lw_meth q1996) sg_X6_append (Nat.le_of_ble_eq_true rfl) dL_law_1080 (fun v4 μ1 hw => l_top (fun s3 es3 => ?_))
  have hw := hw s3 es3
  refine a_istore_6 (pc := 1083) C dL_law_1083 (by decide) rfl ?_
  refine a_aload_2 (pc := 1085) C dL_law_1085 ?_
  refine l_callMi (pc := 1086) C hs [] (st := []) (fun h n u hV => ct_X6_thrown l G _ _ _ hw h n u hV) (by decide) (by decide) rfl q77 q1786 q1787 q1788 (lw_meth q1789) sg_X6_thrown (Nat.le_of_ble_eq_true rfl) dL_law_1086 (fun v6 μ1 hw => l_top (fun s5 es5 => ?_))
  have hw := hw s5 es5
  refine a_iload_5 (pc := 1089) C dL_law_1089 ?_
  refine a_icmp_eq (pc := 1091) C 1096 dL_law_1091 (by decide) (fun c7 => ?_) (fun c7 => ?_)
  · have hw := hw.1 c7
    refine a_iload_5 (pc := 1096) C dL_law_1096 ?_
    refine a_if_ne (pc := 1098) C 1113 dL_law_1098 (by decide) (fun c8 => ?_) (fun c8 => ?_)
    · have hw := hw.1 c8
      refine a_goto (pc := 1113) C 2827 dL_law_1113 (by decide) ?_
      exact a_weak (a_le_some (a_le_some (a_le_some (a_le_some (a_le_some (a_le_none (a_le_none (a_le_none (a_le_none a_le_nil))))))))) (hKx _ hw)
    · have hw := hw.2 c8
      refine a_aload_3 (pc := 1101) C dL_law_1101 ?_
      refine a_iconst (pc := 1102) C dL_law_1102 ic_0 ?_
      obtain ⟨n9, f10, y1, y2, hw⟩ := hw
      refine l_laload (pc := 1103) C y1 y2 dL_law_1103 ?_
      refine a_iload_6 (pc := 1104) C dL_law_1104 ?_
      refine a_i2l (pc := 1106) C dL_law_1106 ?_
      refine a_lcmp (pc := 1107) C dL_law_1107 ?_
      refine a_if_eq (pc := 1108) C 1113 dL_law_1108 (by decide) (fun c11 => ?_) (fun c11 => ?_)
      · have hw := hw.1 c11
        refine a_goto (pc := 1113) C 2827 dL_law_1113 (by decide) ?_
        exact a_weak (a_le_some (a_le_some (a_le_some (a_le_some (a_le_some (a_le_none (a_le_none (a_le_none (a_le_none a_le_nil))))))))) (hKx _ hw)
      · have hw := hw.2 c11
        refine a_iconst (pc := 1111) C dL_law_1111 ic_0 ?_
        exact False.elim hw
  · have hw := hw.2 c7
    refine a_iconst (pc := 1094) C dL_law_1094 ic_0 ?_
    exact False.elim hw
def wp_law_14 (G : aG) (xs : Nat → Int32) (L9 x out : Nat) (i : Int32) (s0 : LWS) (Kx : LWS → Prop) : Prop := (5000 ≤ s0.1.2.2.1 ∧ oC s0.1 x 0 ∧ wp_X1_clearText x (oXs s0.1 5000) (fun v2 σ1 => ∀ s1 : LWS, s1 = (oXs σ1 (s0.1.2.2.1 - 5000), s0.2) → wp_X6_clearText s1.2 (fun v4 μ1 => ∀ s3 : LWS, s3 = (s1.1, μ1) → (((v2 = v4) → (Kx s3)) ∧ ((¬ v2 = v4) → False)))))
set_option maxHeartbeats 4000000 in
theorem law_14 {G : aG} {p : Program} {l : Launch} {e : Env} {s : State} {m : MethodId} {args : Array Value} {below : List Frame} {meth : Method} {c : Code} {A : Nat → Prop} {rt : Option FieldType} {Q : State → Prop} {nm : String} {KL n0 u0 mo b L9 x out : Nat} {xs : Nat → Int32} (C : Cx G p l s m args meth c A (yL nm) cL_law 9 rt) (hs : s.heap.size = n0 ∧ slT s.heap = u0) (hX : va_X b L9 xs s s.heap) (hbA : ¬ A b) (i : Int32) (s0 : LWS) (Kx : LWS → Prop) (hKx : ∀ s1 : LWS, Kx s1 → AW G p l e (aRm 200 KL (10 * KL)) s m args below meth c A 9 Q (LW n0 u0 KL mo s1.1 s1.2) 2827 [some (.ref b), some (.ref x), some (.ref mo), some (.ref out), some (.int i), none, none, none, none] []) (hw : wp_law_14 G xs L9 x out i s0 Kx) : AW G p l e (aRm 200 KL (10 * KL)) s m args below meth c A 9 Q (LW n0 u0 KL mo s0.1 s0.2) 1116 [some (.ref b), some (.ref x), some (.ref mo), some (.ref out), some (.int i), none, none, none, none] [] := by
  unfold wp_law_14 at hw
  refine a_aload_1 (pc := 1116) C dL_law_1116 ?_
  refine l_callVi (pc := 1117) C hs [] (b := x) (ci := 0) (st := []) 5000 hw.1 (fun h n u hB => ct_X1_clearText l G x (lE mo) _ _ hw.2.2 h n u hB) (by decide) (by decide) rfl hw.2.1 q65 q313 q314 q315 (lw_meth q316) sg_X1_clearText (Nat.le_of_ble_eq_true rfl) dL_law_1117 (fun v2 σ1 hw => l_top (fun s1 es1 => ?_))
  have hw := hw s1 es1
  refine a_aload_2 (pc := 1120) C dL_law_1120 ?_
  refine l_callMi (pc := 1121) C hs [] (st := [.int v2]) (fun h n u hV => ct_X6_clearText l G _ _ _ hw h n u hV) (by decide) (by decide) rfl q77 q1997 q1998 q1999 (lw_meth q2000) sg_X6_clearText (Nat.le_of_ble_eq_true rfl) dL_law_1121 (fun v4 μ1 hw => l_top (fun s3 es3 => ?_))
  have hw := hw s3 es3
  refine a_icmp_eq (pc := 1124) C 2827 dL_law_1124 (by decide) (fun c5 => ?_) (fun c5 => ?_)
  · have hw := hw.1 c5
    exact a_weak (a_le_some (a_le_some (a_le_some (a_le_some (a_le_some (a_le_none (a_le_none (a_le_none (a_le_none a_le_nil))))))))) (hKx _ hw)
  · have hw := hw.2 c5
    refine a_iconst (pc := 1127) C dL_law_1127 ic_0 ?_
    exact False.elim hw
def wp_law_15 (G : aG) (xs : Nat → Int32) (L9 x out : Nat) (i : Int32) (s0 : LWS) (Kx : LWS → Prop) : Prop := (5000 ≤ s0.1.2.2.1 ∧ oC s0.1 x 0 ∧ wp_X1_fault G x (oXs s0.1 5000) (fun v2 σ1 => ∀ s1 : LWS, s1 = (oXs σ1 (s0.1.2.2.1 - 5000), s0.2) → wp_X6_fault s1.2 (fun v4 μ1 => ∀ s3 : LWS, s3 = (s1.1, μ1) → (((v2 = v4) → (Kx s3)) ∧ ((¬ v2 = v4) → False)))) (fun _ _ => False))
set_option maxHeartbeats 4000000 in
theorem law_15 {G : aG} {p : Program} {l : Launch} {e : Env} {s : State} {m : MethodId} {args : Array Value} {below : List Frame} {meth : Method} {c : Code} {A : Nat → Prop} {rt : Option FieldType} {Q : State → Prop} {nm : String} {KL n0 u0 mo b L9 x out : Nat} {xs : Nat → Int32} (C : Cx G p l s m args meth c A (yL nm) cL_law 9 rt) (hs : s.heap.size = n0 ∧ slT s.heap = u0) (hX : va_X b L9 xs s s.heap) (hbA : ¬ A b) (i : Int32) (s0 : LWS) (Kx : LWS → Prop) (hKx : ∀ s1 : LWS, Kx s1 → AW G p l e (aRm 200 KL (10 * KL)) s m args below meth c A 9 Q (LW n0 u0 KL mo s1.1 s1.2) 2827 [some (.ref b), some (.ref x), some (.ref mo), some (.ref out), some (.int i), none, none, none, none] []) (hw : wp_law_15 G xs L9 x out i s0 Kx) : AW G p l e (aRm 200 KL (10 * KL)) s m args below meth c A 9 Q (LW n0 u0 KL mo s0.1 s0.2) 1129 [some (.ref b), some (.ref x), some (.ref mo), some (.ref out), some (.int i), none, none, none, none] [] := by
  unfold wp_law_15 at hw
  refine a_aload_1 (pc := 1129) C dL_law_1129 ?_
  refine l_callVW (pc := 1130) C hs [] (b := x) (ci := 0) (st := []) 5000 hw.1 (fun h n u hB => ct_X1_fault l G x (lE mo) _ _ _ hw.2.2 h n u hB) (by decide) (by decide) rfl hw.2.1 (lw_VW q664 q665 q666 q65 q667) rfl sg_X1_fault (Nat.le_of_ble_eq_true rfl) dL_law_1130 (fun v2 σ1 hw => l_top (fun s1 es1 => ?_))
  have hw := hw s1 es1
  refine a_aload_2 (pc := 1133) C dL_law_1133 ?_
  refine l_callMi (pc := 1134) C hs [] (st := [.int v2]) (fun h n u hV => ct_X6_fault l G _ _ _ hw h n u hV) (by decide) (by decide) rfl q77 q2001 q2002 q2003 (lw_meth q2004) sg_X6_fault (Nat.le_of_ble_eq_true rfl) dL_law_1134 (fun v4 μ1 hw => l_top (fun s3 es3 => ?_))
  have hw := hw s3 es3
  refine a_icmp_eq (pc := 1137) C 2827 dL_law_1137 (by decide) (fun c5 => ?_) (fun c5 => ?_)
  · have hw := hw.1 c5
    exact a_weak (a_le_some (a_le_some (a_le_some (a_le_some (a_le_some (a_le_none (a_le_none (a_le_none (a_le_none a_le_nil))))))))) (hKx _ hw)
  · have hw := hw.2 c5
    refine a_iconst (pc := 1140) C dL_law_1140 ic_0 ?_
    exact False.elim hw
def wp_law_16 (G : aG) (xs : Nat → Int32) (L9 x out : Nat) (i : Int32) (s0 : LWS) (Kx : LWS → Prop) : Prop := (5000 ≤ s0.1.2.2.1 ∧ wp_X0_run G x out (oXs s0.1 5000) (fun v2 σ1 => ∀ s1 : LWS, s1 = (oXs σ1 (s0.1.2.2.1 - 5000), s0.2) → wp_X6_run s1.2 (fun v4 μ1 => ∀ s3 : LWS, s3 = (s1.1, μ1) → wp_X6_thrown s3.2 (fun v6 μ1 => ∀ s5 : LWS, s5 = (s3.1, μ1) → (((v6 = v2) → (((¬ v2 = 0) → (Kx s5)) ∧ ((v2 = 0) → (∃ (n9 : Nat) (f10 : Nat → Int64), s5.1.1 out = some (.inl (1, n9, .inr (.inl f10))) ∧ vp_in 0 n9 ∧ ((((lg_cmp (f10 (0 : Int32).toNatClampNeg) (v4.toInt64)) = 0) → (Kx s5)) ∧ ((¬ (lg_cmp (f10 (0 : Int32).toNatClampNeg) (v4.toInt64)) = 0) → False)))))) ∧ ((¬ v6 = v2) → False))))) (fun _ _ => False))
set_option maxHeartbeats 4000000 in
theorem law_16 {G : aG} {p : Program} {l : Launch} {e : Env} {s : State} {m : MethodId} {args : Array Value} {below : List Frame} {meth : Method} {c : Code} {A : Nat → Prop} {rt : Option FieldType} {Q : State → Prop} {nm : String} {KL n0 u0 mo b L9 x out : Nat} {xs : Nat → Int32} (C : Cx G p l s m args meth c A (yL nm) cL_law 9 rt) (hs : s.heap.size = n0 ∧ slT s.heap = u0) (hX : va_X b L9 xs s s.heap) (hbA : ¬ A b) (i : Int32) (s0 : LWS) (Kx : LWS → Prop) (hKx : ∀ s1 : LWS, Kx s1 → AW G p l e (aRm 200 KL (10 * KL)) s m args below meth c A 9 Q (LW n0 u0 KL mo s1.1 s1.2) 2827 [some (.ref b), some (.ref x), some (.ref mo), some (.ref out), some (.int i), none, none, none, none] []) (hw : wp_law_16 G xs L9 x out i s0 Kx) : AW G p l e (aRm 200 KL (10 * KL)) s m args below meth c A 9 Q (LW n0 u0 KL mo s0.1 s0.2) 1142 [some (.ref b), some (.ref x), some (.ref mo), some (.ref out), some (.int i), none, none, none, none] [] := by
  unfold wp_law_16 at hw
  refine a_aload_1 (pc := 1142) C dL_law_1142 ?_
  refine a_aload_3 (pc := 1143) C dL_law_1143 ?_
  refine l_callSW (pc := 1144) C hs [.ref x, .ref out] (st := []) 5000 hw.1 (fun h n u hB => ct_X0_run l G _ _ (lE mo) _ _ _ hw.2 h n u hB) (by decide) (by decide) (lw_SW q1494 q1495 q64 q1496) sg_X0_run (Nat.le_of_ble_eq_true rfl) dL_law_1144 (fun v2 σ1 hw => l_top (fun s1 es1 => ?_))
  have hw := hw s1 es1
  refine a_istore_5 (pc := 1147) C dL_law_1147 (by decide) rfl ?_
  refine a_aload_2 (pc := 1149) C dL_law_1149 ?_
  refine l_callMi (pc := 1150) C hs [] (st := []) (fun h n u hV => ct_X6_run l G _ _ _ hw h n u hV) (by decide) (by decide) rfl q77 q2021 q2022 q2023 (lw_meth q2024) sg_X6_run (Nat.le_of_ble_eq_true rfl) dL_law_1150 (fun v4 μ1 hw => l_top (fun s3 es3 => ?_))
  have hw := hw s3 es3
  refine a_istore_6 (pc := 1153) C dL_law_1153 (by decide) rfl ?_
  refine a_aload_2 (pc := 1155) C dL_law_1155 ?_
  refine l_callMi (pc := 1156) C hs [] (st := []) (fun h n u hV => ct_X6_thrown l G _ _ _ hw h n u hV) (by decide) (by decide) rfl q77 q1786 q1787 q1788 (lw_meth q1789) sg_X6_thrown (Nat.le_of_ble_eq_true rfl) dL_law_1156 (fun v6 μ1 hw => l_top (fun s5 es5 => ?_))
  have hw := hw s5 es5
  refine a_iload_5 (pc := 1159) C dL_law_1159 ?_
  refine a_icmp_eq (pc := 1161) C 1166 dL_law_1161 (by decide) (fun c7 => ?_) (fun c7 => ?_)
  · have hw := hw.1 c7
    refine a_iload_5 (pc := 1166) C dL_law_1166 ?_
    refine a_if_ne (pc := 1168) C 1183 dL_law_1168 (by decide) (fun c8 => ?_) (fun c8 => ?_)
    · have hw := hw.1 c8
      refine a_goto (pc := 1183) C 2827 dL_law_1183 (by decide) ?_
      exact a_weak (a_le_some (a_le_some (a_le_some (a_le_some (a_le_some (a_le_none (a_le_none (a_le_none (a_le_none a_le_nil))))))))) (hKx _ hw)
    · have hw := hw.2 c8
      refine a_aload_3 (pc := 1171) C dL_law_1171 ?_
      refine a_iconst (pc := 1172) C dL_law_1172 ic_0 ?_
      obtain ⟨n9, f10, y1, y2, hw⟩ := hw
      refine l_laload (pc := 1173) C y1 y2 dL_law_1173 ?_
      refine a_iload_6 (pc := 1174) C dL_law_1174 ?_
      refine a_i2l (pc := 1176) C dL_law_1176 ?_
      refine a_lcmp (pc := 1177) C dL_law_1177 ?_
      refine a_if_eq (pc := 1178) C 1183 dL_law_1178 (by decide) (fun c11 => ?_) (fun c11 => ?_)
      · have hw := hw.1 c11
        refine a_goto (pc := 1183) C 2827 dL_law_1183 (by decide) ?_
        exact a_weak (a_le_some (a_le_some (a_le_some (a_le_some (a_le_some (a_le_none (a_le_none (a_le_none (a_le_none a_le_nil))))))))) (hKx _ hw)
      · have hw := hw.2 c11
        refine a_iconst (pc := 1181) C dL_law_1181 ic_0 ?_
        exact False.elim hw
  · have hw := hw.2 c7
    refine a_iconst (pc := 1164) C dL_law_1164 ic_0 ?_
    exact False.elim hw
def wp_law_17 (G : aG) (xs : Nat → Int32) (L9 x out : Nat) (i : Int32) (s0 : LWS) (Kx : LWS → Prop) : Prop := (5000 ≤ s0.1.2.2.1 ∧ wp_X0_undo x out (oXs s0.1 5000) (fun v2 σ1 => ∀ s1 : LWS, s1 = (oXs σ1 (s0.1.2.2.1 - 5000), s0.2) → wp_X6_undo s1.2 (fun v4 μ1 => ∀ s3 : LWS, s3 = (s1.1, μ1) → wp_X6_thrown s3.2 (fun v6 μ1 => ∀ s5 : LWS, s5 = (s3.1, μ1) → (((v6 = v2) → (((¬ v2 = 0) → (Kx s5)) ∧ ((v2 = 0) → (∃ (n9 : Nat) (f10 : Nat → Int64), s5.1.1 out = some (.inl (1, n9, .inr (.inl f10))) ∧ vp_in 0 n9 ∧ ((((lg_cmp (f10 (0 : Int32).toNatClampNeg) (v4.toInt64)) = 0) → (Kx s5)) ∧ ((¬ (lg_cmp (f10 (0 : Int32).toNatClampNeg) (v4.toInt64)) = 0) → False)))))) ∧ ((¬ v6 = v2) → False))))) (fun _ _ => False))
set_option maxHeartbeats 4000000 in
theorem law_17 {G : aG} {p : Program} {l : Launch} {e : Env} {s : State} {m : MethodId} {args : Array Value} {below : List Frame} {meth : Method} {c : Code} {A : Nat → Prop} {rt : Option FieldType} {Q : State → Prop} {nm : String} {KL n0 u0 mo b L9 x out : Nat} {xs : Nat → Int32} (C : Cx G p l s m args meth c A (yL nm) cL_law 9 rt) (hs : s.heap.size = n0 ∧ slT s.heap = u0) (hX : va_X b L9 xs s s.heap) (hbA : ¬ A b) (i : Int32) (s0 : LWS) (Kx : LWS → Prop) (hKx : ∀ s1 : LWS, Kx s1 → AW G p l e (aRm 200 KL (10 * KL)) s m args below meth c A 9 Q (LW n0 u0 KL mo s1.1 s1.2) 2827 [some (.ref b), some (.ref x), some (.ref mo), some (.ref out), some (.int i), none, none, none, none] []) (hw : wp_law_17 G xs L9 x out i s0 Kx) : AW G p l e (aRm 200 KL (10 * KL)) s m args below meth c A 9 Q (LW n0 u0 KL mo s0.1 s0.2) 1186 [some (.ref b), some (.ref x), some (.ref mo), some (.ref out), some (.int i), none, none, none, none] [] := by
  unfold wp_law_17 at hw
  refine a_aload_1 (pc := 1186) C dL_law_1186 ?_
  refine a_aload_3 (pc := 1187) C dL_law_1187 ?_
  refine l_callSW (pc := 1188) C hs [.ref x, .ref out] (st := []) 5000 hw.1 (fun h n u hB => ct_X0_undo l G _ _ (lE mo) _ _ _ hw.2 h n u hB) (by decide) (by decide) (lw_SW q1561 q1562 q64 q1563) sg_X0_undo (Nat.le_of_ble_eq_true rfl) dL_law_1188 (fun v2 σ1 hw => l_top (fun s1 es1 => ?_))
  have hw := hw s1 es1
  refine a_istore_5 (pc := 1191) C dL_law_1191 (by decide) rfl ?_
  refine a_aload_2 (pc := 1193) C dL_law_1193 ?_
  refine l_callMi (pc := 1194) C hs [] (st := []) (fun h n u hV => ct_X6_undo l G _ _ _ hw h n u hV) (by decide) (by decide) rfl q77 q1790 q1791 q1792 (lw_meth q1793) sg_X6_undo (Nat.le_of_ble_eq_true rfl) dL_law_1194 (fun v4 μ1 hw => l_top (fun s3 es3 => ?_))
  have hw := hw s3 es3
  refine a_istore_6 (pc := 1197) C dL_law_1197 (by decide) rfl ?_
  refine a_aload_2 (pc := 1199) C dL_law_1199 ?_
  refine l_callMi (pc := 1200) C hs [] (st := []) (fun h n u hV => ct_X6_thrown l G _ _ _ hw h n u hV) (by decide) (by decide) rfl q77 q1786 q1787 q1788 (lw_meth q1789) sg_X6_thrown (Nat.le_of_ble_eq_true rfl) dL_law_1200 (fun v6 μ1 hw => l_top (fun s5 es5 => ?_))
  have hw := hw s5 es5
  refine a_iload_5 (pc := 1203) C dL_law_1203 ?_
  refine a_icmp_eq (pc := 1205) C 1210 dL_law_1205 (by decide) (fun c7 => ?_) (fun c7 => ?_)
  · have hw := hw.1 c7
    refine a_iload_5 (pc := 1210) C dL_law_1210 ?_
    refine a_if_ne (pc := 1212) C 1227 dL_law_1212 (by decide) (fun c8 => ?_) (fun c8 => ?_)
    · have hw := hw.1 c8
      refine a_goto (pc := 1227) C 2827 dL_law_1227 (by decide) ?_
      exact a_weak (a_le_some (a_le_some (a_le_some (a_le_some (a_le_some (a_le_none (a_le_none (a_le_none (a_le_none a_le_nil))))))))) (hKx _ hw)
    · have hw := hw.2 c8
      refine a_aload_3 (pc := 1215) C dL_law_1215 ?_
      refine a_iconst (pc := 1216) C dL_law_1216 ic_0 ?_
      obtain ⟨n9, f10, y1, y2, hw⟩ := hw
      refine l_laload (pc := 1217) C y1 y2 dL_law_1217 ?_
      refine a_iload_6 (pc := 1218) C dL_law_1218 ?_
      refine a_i2l (pc := 1220) C dL_law_1220 ?_
      refine a_lcmp (pc := 1221) C dL_law_1221 ?_
      refine a_if_eq (pc := 1222) C 1227 dL_law_1222 (by decide) (fun c11 => ?_) (fun c11 => ?_)
      · have hw := hw.1 c11
        refine a_goto (pc := 1227) C 2827 dL_law_1227 (by decide) ?_
        exact a_weak (a_le_some (a_le_some (a_le_some (a_le_some (a_le_some (a_le_none (a_le_none (a_le_none (a_le_none a_le_nil))))))))) (hKx _ hw)
      · have hw := hw.2 c11
        refine a_iconst (pc := 1225) C dL_law_1225 ic_0 ?_
        exact False.elim hw
  · have hw := hw.2 c7
    refine a_iconst (pc := 1208) C dL_law_1208 ic_0 ?_
    exact False.elim hw
def wp_law_18 (G : aG) (xs : Nat → Int32) (L9 x out : Nat) (i : Int32) (s0 : LWS) (Kx : LWS → Prop) : Prop := (5000 ≤ s0.1.2.2.1 ∧ oC s0.1 x 0 ∧ wp_X1_savedStates x (oXs s0.1 5000) (fun v2 σ1 => ∀ s1 : LWS, s1 = (oXs σ1 (s0.1.2.2.1 - 5000), s0.2) → wp_X6_savedStates s1.2 (fun v4 μ1 => ∀ s3 : LWS, s3 = (s1.1, μ1) → (((v2 = v4) → (Kx s3)) ∧ ((¬ v2 = v4) → False)))))
set_option maxHeartbeats 4000000 in
theorem law_18 {G : aG} {p : Program} {l : Launch} {e : Env} {s : State} {m : MethodId} {args : Array Value} {below : List Frame} {meth : Method} {c : Code} {A : Nat → Prop} {rt : Option FieldType} {Q : State → Prop} {nm : String} {KL n0 u0 mo b L9 x out : Nat} {xs : Nat → Int32} (C : Cx G p l s m args meth c A (yL nm) cL_law 9 rt) (hs : s.heap.size = n0 ∧ slT s.heap = u0) (hX : va_X b L9 xs s s.heap) (hbA : ¬ A b) (i : Int32) (s0 : LWS) (Kx : LWS → Prop) (hKx : ∀ s1 : LWS, Kx s1 → AW G p l e (aRm 200 KL (10 * KL)) s m args below meth c A 9 Q (LW n0 u0 KL mo s1.1 s1.2) 2827 [some (.ref b), some (.ref x), some (.ref mo), some (.ref out), some (.int i), none, none, none, none] []) (hw : wp_law_18 G xs L9 x out i s0 Kx) : AW G p l e (aRm 200 KL (10 * KL)) s m args below meth c A 9 Q (LW n0 u0 KL mo s0.1 s0.2) 1230 [some (.ref b), some (.ref x), some (.ref mo), some (.ref out), some (.int i), none, none, none, none] [] := by
  unfold wp_law_18 at hw
  refine a_aload_1 (pc := 1230) C dL_law_1230 ?_
  refine l_callVi (pc := 1231) C hs [] (b := x) (ci := 0) (st := []) 5000 hw.1 (fun h n u hB => ct_X1_savedStates l G x (lE mo) _ _ hw.2.2 h n u hB) (by decide) (by decide) rfl hw.2.1 q65 q956 q957 q958 (lw_meth q959) sg_X1_savedStates (Nat.le_of_ble_eq_true rfl) dL_law_1231 (fun v2 σ1 hw => l_top (fun s1 es1 => ?_))
  have hw := hw s1 es1
  refine a_aload_2 (pc := 1234) C dL_law_1234 ?_
  refine l_callMi (pc := 1235) C hs [] (st := [.int v2]) (fun h n u hV => ct_X6_savedStates l G _ _ _ hw h n u hV) (by decide) (by decide) rfl q77 q1801 q1802 q1803 (lw_meth q1804) sg_X6_savedStates (Nat.le_of_ble_eq_true rfl) dL_law_1235 (fun v4 μ1 hw => l_top (fun s3 es3 => ?_))
  have hw := hw s3 es3
  refine a_icmp_eq (pc := 1238) C 2827 dL_law_1238 (by decide) (fun c5 => ?_) (fun c5 => ?_)
  · have hw := hw.1 c5
    exact a_weak (a_le_some (a_le_some (a_le_some (a_le_some (a_le_some (a_le_none (a_le_none (a_le_none (a_le_none a_le_nil))))))))) (hKx _ hw)
  · have hw := hw.2 c5
    refine a_iconst (pc := 1241) C dL_law_1241 ic_0 ?_
    exact False.elim hw
def wp_law_19 (G : aG) (xs : Nat → Int32) (L9 x out : Nat) (i : Int32) (s0 : LWS) (Kx : LWS → Prop) : Prop := (5000 ≤ s0.1.2.2.1 ∧ oC s0.1 x 0 ∧ wp_X1_keep x (oXs s0.1 5000) (fun v2 σ1 => ∀ s1 : LWS, s1 = (oXs σ1 (s0.1.2.2.1 - 5000), s0.2) → wp_X6_keep s1.2 (fun v4 μ1 => ∀ s3 : LWS, s3 = (s1.1, μ1) → (((v2 = v4) → (Kx s3)) ∧ ((¬ v2 = v4) → False)))))
set_option maxHeartbeats 4000000 in
theorem law_19 {G : aG} {p : Program} {l : Launch} {e : Env} {s : State} {m : MethodId} {args : Array Value} {below : List Frame} {meth : Method} {c : Code} {A : Nat → Prop} {rt : Option FieldType} {Q : State → Prop} {nm : String} {KL n0 u0 mo b L9 x out : Nat} {xs : Nat → Int32} (C : Cx G p l s m args meth c A (yL nm) cL_law 9 rt) (hs : s.heap.size = n0 ∧ slT s.heap = u0) (hX : va_X b L9 xs s s.heap) (hbA : ¬ A b) (i : Int32) (s0 : LWS) (Kx : LWS → Prop) (hKx : ∀ s1 : LWS, Kx s1 → AW G p l e (aRm 200 KL (10 * KL)) s m args below meth c A 9 Q (LW n0 u0 KL mo s1.1 s1.2) 2827 [some (.ref b), some (.ref x), some (.ref mo), some (.ref out), some (.int i), none, none, none, none] []) (hw : wp_law_19 G xs L9 x out i s0 Kx) : AW G p l e (aRm 200 KL (10 * KL)) s m args below meth c A 9 Q (LW n0 u0 KL mo s0.1 s0.2) 1243 [some (.ref b), some (.ref x), some (.ref mo), some (.ref out), some (.int i), none, none, none, none] [] := by
  unfold wp_law_19 at hw
  refine a_aload_1 (pc := 1243) C dL_law_1243 ?_
  refine l_callVi (pc := 1244) C hs [] (b := x) (ci := 0) (st := []) 5000 hw.1 (fun h n u hB => ct_X1_keep l G x (lE mo) _ _ hw.2.2 h n u hB) (by decide) (by decide) rfl hw.2.1 q65 q967 q968 q969 (lw_meth q970) sg_X1_keep (Nat.le_of_ble_eq_true rfl) dL_law_1244 (fun v2 σ1 hw => l_top (fun s1 es1 => ?_))
  have hw := hw s1 es1
  refine a_aload_2 (pc := 1247) C dL_law_1247 ?_
  refine l_callMi (pc := 1248) C hs [] (st := [.int v2]) (fun h n u hV => ct_X6_keep l G _ _ _ hw h n u hV) (by decide) (by decide) rfl q77 q1805 q1806 q1807 (lw_meth q1808) sg_X6_keep (Nat.le_of_ble_eq_true rfl) dL_law_1248 (fun v4 μ1 hw => l_top (fun s3 es3 => ?_))
  have hw := hw s3 es3
  refine a_icmp_eq (pc := 1251) C 2827 dL_law_1251 (by decide) (fun c5 => ?_) (fun c5 => ?_)
  · have hw := hw.1 c5
    exact a_weak (a_le_some (a_le_some (a_le_some (a_le_some (a_le_some (a_le_none (a_le_none (a_le_none (a_le_none a_le_nil))))))))) (hKx _ hw)
  · have hw := hw.2 c5
    refine a_iconst (pc := 1254) C dL_law_1254 ic_0 ?_
    exact False.elim hw
def wp_law_20 (G : aG) (xs : Nat → Int32) (L9 x out : Nat) (i : Int32) (s0 : LWS) (Kx : LWS → Prop) : Prop := (5000 ≤ s0.1.2.2.1 ∧ wp_X0_restore x out (oXs s0.1 5000) (fun v2 σ1 => ∀ s1 : LWS, s1 = (oXs σ1 (s0.1.2.2.1 - 5000), s0.2) → wp_X6_restore s1.2 (fun v4 μ1 => ∀ s3 : LWS, s3 = (s1.1, μ1) → wp_X6_thrown s3.2 (fun v6 μ1 => ∀ s5 : LWS, s5 = (s3.1, μ1) → (((v6 = v2) → (((¬ v2 = 0) → (Kx s5)) ∧ ((v2 = 0) → (∃ (n9 : Nat) (f10 : Nat → Int64), s5.1.1 out = some (.inl (1, n9, .inr (.inl f10))) ∧ vp_in 0 n9 ∧ ((((lg_cmp (f10 (0 : Int32).toNatClampNeg) (v4.toInt64)) = 0) → (Kx s5)) ∧ ((¬ (lg_cmp (f10 (0 : Int32).toNatClampNeg) (v4.toInt64)) = 0) → False)))))) ∧ ((¬ v6 = v2) → False))))) (fun _ _ => False))
set_option maxHeartbeats 4000000 in
theorem law_20 {G : aG} {p : Program} {l : Launch} {e : Env} {s : State} {m : MethodId} {args : Array Value} {below : List Frame} {meth : Method} {c : Code} {A : Nat → Prop} {rt : Option FieldType} {Q : State → Prop} {nm : String} {KL n0 u0 mo b L9 x out : Nat} {xs : Nat → Int32} (C : Cx G p l s m args meth c A (yL nm) cL_law 9 rt) (hs : s.heap.size = n0 ∧ slT s.heap = u0) (hX : va_X b L9 xs s s.heap) (hbA : ¬ A b) (i : Int32) (s0 : LWS) (Kx : LWS → Prop) (hKx : ∀ s1 : LWS, Kx s1 → AW G p l e (aRm 200 KL (10 * KL)) s m args below meth c A 9 Q (LW n0 u0 KL mo s1.1 s1.2) 2827 [some (.ref b), some (.ref x), some (.ref mo), some (.ref out), some (.int i), none, none, none, none] []) (hw : wp_law_20 G xs L9 x out i s0 Kx) : AW G p l e (aRm 200 KL (10 * KL)) s m args below meth c A 9 Q (LW n0 u0 KL mo s0.1 s0.2) 1256 [some (.ref b), some (.ref x), some (.ref mo), some (.ref out), some (.int i), none, none, none, none] [] := by
  unfold wp_law_20 at hw
  refine a_aload_1 (pc := 1256) C dL_law_1256 ?_
  refine a_aload_3 (pc := 1257) C dL_law_1257 ?_
  refine l_callSW (pc := 1258) C hs [.ref x, .ref out] (st := []) 5000 hw.1 (fun h n u hB => ct_X0_restore l G _ _ (lE mo) _ _ _ hw.2 h n u hB) (by decide) (by decide) (lw_SW q1583 q1584 q64 q1585) sg_X0_restore (Nat.le_of_ble_eq_true rfl) dL_law_1258 (fun v2 σ1 hw => l_top (fun s1 es1 => ?_))
  have hw := hw s1 es1
  refine a_istore_5 (pc := 1261) C dL_law_1261 (by decide) rfl ?_
  refine a_aload_2 (pc := 1263) C dL_law_1263 ?_
  refine l_callMi (pc := 1264) C hs [] (st := []) (fun h n u hV => ct_X6_restore l G _ _ _ hw h n u hV) (by decide) (by decide) rfl q77 q1809 q1810 q1811 (lw_meth q1812) sg_X6_restore (Nat.le_of_ble_eq_true rfl) dL_law_1264 (fun v4 μ1 hw => l_top (fun s3 es3 => ?_))
  have hw := hw s3 es3
  refine a_istore_6 (pc := 1267) C dL_law_1267 (by decide) rfl ?_
  refine a_aload_2 (pc := 1269) C dL_law_1269 ?_
  refine l_callMi (pc := 1270) C hs [] (st := []) (fun h n u hV => ct_X6_thrown l G _ _ _ hw h n u hV) (by decide) (by decide) rfl q77 q1786 q1787 q1788 (lw_meth q1789) sg_X6_thrown (Nat.le_of_ble_eq_true rfl) dL_law_1270 (fun v6 μ1 hw => l_top (fun s5 es5 => ?_))
  have hw := hw s5 es5
  refine a_iload_5 (pc := 1273) C dL_law_1273 ?_
  refine a_icmp_eq (pc := 1275) C 1280 dL_law_1275 (by decide) (fun c7 => ?_) (fun c7 => ?_)
  · have hw := hw.1 c7
    refine a_iload_5 (pc := 1280) C dL_law_1280 ?_
    refine a_if_ne (pc := 1282) C 1297 dL_law_1282 (by decide) (fun c8 => ?_) (fun c8 => ?_)
    · have hw := hw.1 c8
      refine a_goto (pc := 1297) C 2827 dL_law_1297 (by decide) ?_
      exact a_weak (a_le_some (a_le_some (a_le_some (a_le_some (a_le_some (a_le_none (a_le_none (a_le_none (a_le_none a_le_nil))))))))) (hKx _ hw)
    · have hw := hw.2 c8
      refine a_aload_3 (pc := 1285) C dL_law_1285 ?_
      refine a_iconst (pc := 1286) C dL_law_1286 ic_0 ?_
      obtain ⟨n9, f10, y1, y2, hw⟩ := hw
      refine l_laload (pc := 1287) C y1 y2 dL_law_1287 ?_
      refine a_iload_6 (pc := 1288) C dL_law_1288 ?_
      refine a_i2l (pc := 1290) C dL_law_1290 ?_
      refine a_lcmp (pc := 1291) C dL_law_1291 ?_
      refine a_if_eq (pc := 1292) C 1297 dL_law_1292 (by decide) (fun c11 => ?_) (fun c11 => ?_)
      · have hw := hw.1 c11
        refine a_goto (pc := 1297) C 2827 dL_law_1297 (by decide) ?_
        exact a_weak (a_le_some (a_le_some (a_le_some (a_le_some (a_le_some (a_le_none (a_le_none (a_le_none (a_le_none a_le_nil))))))))) (hKx _ hw)
      · have hw := hw.2 c11
        refine a_iconst (pc := 1295) C dL_law_1295 ic_0 ?_
        exact False.elim hw
  · have hw := hw.2 c7
    refine a_iconst (pc := 1278) C dL_law_1278 ic_0 ?_
    exact False.elim hw
def wp_law_21 (G : aG) (xs : Nat → Int32) (L9 x out : Nat) (i : Int32) (s0 : LWS) (Kx : LWS → Prop) : Prop := (5000 ≤ s0.1.2.2.1 ∧ oC s0.1 x 0 ∧ wp_X1_lots x (oXs s0.1 5000) (fun v2 σ1 => ∀ s1 : LWS, s1 = (oXs σ1 (s0.1.2.2.1 - 5000), s0.2) → wp_X6_lots s1.2 (fun v4 μ1 => ∀ s3 : LWS, s3 = (s1.1, μ1) → (((v2 = v4) → (Kx s3)) ∧ ((¬ v2 = v4) → False)))))
set_option maxHeartbeats 4000000 in
theorem law_21 {G : aG} {p : Program} {l : Launch} {e : Env} {s : State} {m : MethodId} {args : Array Value} {below : List Frame} {meth : Method} {c : Code} {A : Nat → Prop} {rt : Option FieldType} {Q : State → Prop} {nm : String} {KL n0 u0 mo b L9 x out : Nat} {xs : Nat → Int32} (C : Cx G p l s m args meth c A (yL nm) cL_law 9 rt) (hs : s.heap.size = n0 ∧ slT s.heap = u0) (hX : va_X b L9 xs s s.heap) (hbA : ¬ A b) (i : Int32) (s0 : LWS) (Kx : LWS → Prop) (hKx : ∀ s1 : LWS, Kx s1 → AW G p l e (aRm 200 KL (10 * KL)) s m args below meth c A 9 Q (LW n0 u0 KL mo s1.1 s1.2) 2827 [some (.ref b), some (.ref x), some (.ref mo), some (.ref out), some (.int i), none, none, none, none] []) (hw : wp_law_21 G xs L9 x out i s0 Kx) : AW G p l e (aRm 200 KL (10 * KL)) s m args below meth c A 9 Q (LW n0 u0 KL mo s0.1 s0.2) 1300 [some (.ref b), some (.ref x), some (.ref mo), some (.ref out), some (.int i), none, none, none, none] [] := by
  unfold wp_law_21 at hw
  refine a_aload_1 (pc := 1300) C dL_law_1300 ?_
  refine l_callVi (pc := 1301) C hs [] (b := x) (ci := 0) (st := []) 5000 hw.1 (fun h n u hB => ct_X1_lots l G x (lE mo) _ _ hw.2.2 h n u hB) (by decide) (by decide) rfl hw.2.1 q65 q977 q978 q979 (lw_meth q980) sg_X1_lots (Nat.le_of_ble_eq_true rfl) dL_law_1301 (fun v2 σ1 hw => l_top (fun s1 es1 => ?_))
  have hw := hw s1 es1
  refine a_aload_2 (pc := 1304) C dL_law_1304 ?_
  refine l_callMi (pc := 1305) C hs [] (st := [.int v2]) (fun h n u hV => ct_X6_lots l G _ _ _ hw h n u hV) (by decide) (by decide) rfl q77 q2033 q2034 q2035 (lw_meth q2036) sg_X6_lots (Nat.le_of_ble_eq_true rfl) dL_law_1305 (fun v4 μ1 hw => l_top (fun s3 es3 => ?_))
  have hw := hw s3 es3
  refine a_icmp_eq (pc := 1308) C 2827 dL_law_1308 (by decide) (fun c5 => ?_) (fun c5 => ?_)
  · have hw := hw.1 c5
    exact a_weak (a_le_some (a_le_some (a_le_some (a_le_some (a_le_some (a_le_none (a_le_none (a_le_none (a_le_none a_le_nil))))))))) (hKx _ hw)
  · have hw := hw.2 c5
    refine a_iconst (pc := 1311) C dL_law_1311 ic_0 ?_
    exact False.elim hw
def wp_law_22 (G : aG) (xs : Nat → Int32) (L9 x out : Nat) (i : Int32) (s0 : LWS) (Kx : LWS → Prop) : Prop := (vp_in (i + 1) L9 ∧ (5000 ≤ s0.1.2.2.1 ∧ wp_X0_placeOf x (xs (i + 1).toNatClampNeg) out (oXs s0.1 5000) (fun v2 σ1 => ∀ s1 : LWS, s1 = (oXs σ1 (s0.1.2.2.1 - 5000), s0.2) → (vp_in (i + 1) L9 ∧ wp_X6_placeOf (xs (i + 1).toNatClampNeg) s1.2 (fun v4 μ1 => ∀ s3 : LWS, s3 = (s1.1, μ1) → wp_X6_thrown s3.2 (fun v6 μ1 => ∀ s5 : LWS, s5 = (s3.1, μ1) → (((v6 = v2) → (((¬ v2 = 0) → (Kx s5)) ∧ ((v2 = 0) → (∃ (n9 : Nat) (f10 : Nat → Int64), s5.1.1 out = some (.inl (1, n9, .inr (.inl f10))) ∧ vp_in 0 n9 ∧ ((((lg_cmp (f10 (0 : Int32).toNatClampNeg) (v4.toInt64)) = 0) → (Kx s5)) ∧ ((¬ (lg_cmp (f10 (0 : Int32).toNatClampNeg) (v4.toInt64)) = 0) → False)))))) ∧ ((¬ v6 = v2) → False)))))) (fun _ _ => False)))
set_option maxHeartbeats 4000000 in
theorem law_22 {G : aG} {p : Program} {l : Launch} {e : Env} {s : State} {m : MethodId} {args : Array Value} {below : List Frame} {meth : Method} {c : Code} {A : Nat → Prop} {rt : Option FieldType} {Q : State → Prop} {nm : String} {KL n0 u0 mo b L9 x out : Nat} {xs : Nat → Int32} (C : Cx G p l s m args meth c A (yL nm) cL_law 9 rt) (hs : s.heap.size = n0 ∧ slT s.heap = u0) (hX : va_X b L9 xs s s.heap) (hbA : ¬ A b) (i : Int32) (s0 : LWS) (Kx : LWS → Prop) (hKx : ∀ s1 : LWS, Kx s1 → AW G p l e (aRm 200 KL (10 * KL)) s m args below meth c A 9 Q (LW n0 u0 KL mo s1.1 s1.2) 2827 [some (.ref b), some (.ref x), some (.ref mo), some (.ref out), some (.int i), none, none, none, none] []) (hw : wp_law_22 G xs L9 x out i s0 Kx) : AW G p l e (aRm 200 KL (10 * KL)) s m args below meth c A 9 Q (LW n0 u0 KL mo s0.1 s0.2) 1313 [some (.ref b), some (.ref x), some (.ref mo), some (.ref out), some (.int i), none, none, none, none] [] := by
  unfold wp_law_22 at hw
  refine a_aload_1 (pc := 1313) C dL_law_1313 ?_
  refine a_aload_0 (pc := 1314) C dL_law_1314 ?_
  refine a_iload_4 (pc := 1315) C dL_law_1315 ?_
  refine a_iconst (pc := 1317) C dL_law_1317 ic_1 ?_
  refine a_iadd (pc := 1318) C dL_law_1318 ?_
  refine a_xald (pc := 1319) C hX hbA hw.1 dL_law_1319 ?_
  have hw := hw.2
  refine a_aload_3 (pc := 1320) C dL_law_1320 ?_
  refine l_callSW (pc := 1321) C hs [.ref x, .int (xs (i + 1).toNatClampNeg), .ref out] (st := []) 5000 hw.1 (fun h n u hB => ct_X0_placeOf l G _ _ _ (lE mo) _ _ _ hw.2 h n u hB) (by decide) (by decide) (lw_SW q1590 q1591 q64 q1592) sg_X0_placeOf (Nat.le_of_ble_eq_true rfl) dL_law_1321 (fun v2 σ1 hw => l_top (fun s1 es1 => ?_))
  have hw := hw s1 es1
  refine a_istore_5 (pc := 1324) C dL_law_1324 (by decide) rfl ?_
  refine a_aload_2 (pc := 1326) C dL_law_1326 ?_
  refine a_aload_0 (pc := 1327) C dL_law_1327 ?_
  refine a_iload_4 (pc := 1328) C dL_law_1328 ?_
  refine a_iconst (pc := 1330) C dL_law_1330 ic_1 ?_
  refine a_iadd (pc := 1331) C dL_law_1331 ?_
  refine a_xald (pc := 1332) C hX hbA hw.1 dL_law_1332 ?_
  have hw := hw.2
  refine l_callMi (pc := 1333) C hs [.int (xs (i + 1).toNatClampNeg)] (st := []) (fun h n u hV => ct_X6_placeOf l G _ _ _ _ hw h n u hV) (by decide) (by decide) rfl q77 q2037 q2038 q2039 (lw_meth q2040) sg_X6_placeOf (Nat.le_of_ble_eq_true rfl) dL_law_1333 (fun v4 μ1 hw => l_top (fun s3 es3 => ?_))
  have hw := hw s3 es3
  refine a_istore_6 (pc := 1336) C dL_law_1336 (by decide) rfl ?_
  refine a_aload_2 (pc := 1338) C dL_law_1338 ?_
  refine l_callMi (pc := 1339) C hs [] (st := []) (fun h n u hV => ct_X6_thrown l G _ _ _ hw h n u hV) (by decide) (by decide) rfl q77 q1786 q1787 q1788 (lw_meth q1789) sg_X6_thrown (Nat.le_of_ble_eq_true rfl) dL_law_1339 (fun v6 μ1 hw => l_top (fun s5 es5 => ?_))
  have hw := hw s5 es5
  refine a_iload_5 (pc := 1342) C dL_law_1342 ?_
  refine a_icmp_eq (pc := 1344) C 1349 dL_law_1344 (by decide) (fun c7 => ?_) (fun c7 => ?_)
  · have hw := hw.1 c7
    refine a_iload_5 (pc := 1349) C dL_law_1349 ?_
    refine a_if_ne (pc := 1351) C 1366 dL_law_1351 (by decide) (fun c8 => ?_) (fun c8 => ?_)
    · have hw := hw.1 c8
      refine a_goto (pc := 1366) C 2827 dL_law_1366 (by decide) ?_
      exact a_weak (a_le_some (a_le_some (a_le_some (a_le_some (a_le_some (a_le_none (a_le_none (a_le_none (a_le_none a_le_nil))))))))) (hKx _ hw)
    · have hw := hw.2 c8
      refine a_aload_3 (pc := 1354) C dL_law_1354 ?_
      refine a_iconst (pc := 1355) C dL_law_1355 ic_0 ?_
      obtain ⟨n9, f10, y1, y2, hw⟩ := hw
      refine l_laload (pc := 1356) C y1 y2 dL_law_1356 ?_
      refine a_iload_6 (pc := 1357) C dL_law_1357 ?_
      refine a_i2l (pc := 1359) C dL_law_1359 ?_
      refine a_lcmp (pc := 1360) C dL_law_1360 ?_
      refine a_if_eq (pc := 1361) C 1366 dL_law_1361 (by decide) (fun c11 => ?_) (fun c11 => ?_)
      · have hw := hw.1 c11
        refine a_goto (pc := 1366) C 2827 dL_law_1366 (by decide) ?_
        exact a_weak (a_le_some (a_le_some (a_le_some (a_le_some (a_le_some (a_le_none (a_le_none (a_le_none (a_le_none a_le_nil))))))))) (hKx _ hw)
      · have hw := hw.2 c11
        refine a_iconst (pc := 1364) C dL_law_1364 ic_0 ?_
        exact False.elim hw
  · have hw := hw.2 c7
    refine a_iconst (pc := 1347) C dL_law_1347 ic_0 ?_
    exact False.elim hw
def wp_law_23 (G : aG) (xs : Nat → Int32) (L9 x out : Nat) (i : Int32) (s0 : LWS) (Kx : LWS → Prop) : Prop := (vp_in (i + 1) L9 ∧ (5000 ≤ s0.1.2.2.1 ∧ wp_X0_drumOf x (xs (i + 1).toNatClampNeg) out (oXs s0.1 5000) (fun v2 σ1 => ∀ s1 : LWS, s1 = (oXs σ1 (s0.1.2.2.1 - 5000), s0.2) → (vp_in (i + 1) L9 ∧ wp_X6_drumOf (xs (i + 1).toNatClampNeg) s1.2 (fun v4 μ1 => ∀ s3 : LWS, s3 = (s1.1, μ1) → wp_X6_thrown s3.2 (fun v6 μ1 => ∀ s5 : LWS, s5 = (s3.1, μ1) → (((v6 = v2) → (((¬ v2 = 0) → (Kx s5)) ∧ ((v2 = 0) → (∃ (n9 : Nat) (f10 : Nat → Int64), s5.1.1 out = some (.inl (1, n9, .inr (.inl f10))) ∧ vp_in 0 n9 ∧ ((((lg_cmp (f10 (0 : Int32).toNatClampNeg) (v4.toInt64)) = 0) → (Kx s5)) ∧ ((¬ (lg_cmp (f10 (0 : Int32).toNatClampNeg) (v4.toInt64)) = 0) → False)))))) ∧ ((¬ v6 = v2) → False)))))) (fun _ _ => False)))
set_option maxHeartbeats 4000000 in
theorem law_23 {G : aG} {p : Program} {l : Launch} {e : Env} {s : State} {m : MethodId} {args : Array Value} {below : List Frame} {meth : Method} {c : Code} {A : Nat → Prop} {rt : Option FieldType} {Q : State → Prop} {nm : String} {KL n0 u0 mo b L9 x out : Nat} {xs : Nat → Int32} (C : Cx G p l s m args meth c A (yL nm) cL_law 9 rt) (hs : s.heap.size = n0 ∧ slT s.heap = u0) (hX : va_X b L9 xs s s.heap) (hbA : ¬ A b) (i : Int32) (s0 : LWS) (Kx : LWS → Prop) (hKx : ∀ s1 : LWS, Kx s1 → AW G p l e (aRm 200 KL (10 * KL)) s m args below meth c A 9 Q (LW n0 u0 KL mo s1.1 s1.2) 2827 [some (.ref b), some (.ref x), some (.ref mo), some (.ref out), some (.int i), none, none, none, none] []) (hw : wp_law_23 G xs L9 x out i s0 Kx) : AW G p l e (aRm 200 KL (10 * KL)) s m args below meth c A 9 Q (LW n0 u0 KL mo s0.1 s0.2) 1369 [some (.ref b), some (.ref x), some (.ref mo), some (.ref out), some (.int i), none, none, none, none] [] := by
  unfold wp_law_23 at hw
  refine a_aload_1 (pc := 1369) C dL_law_1369 ?_
  refine a_aload_0 (pc := 1370) C dL_law_1370 ?_
  refine a_iload_4 (pc := 1371) C dL_law_1371 ?_
  refine a_iconst (pc := 1373) C dL_law_1373 ic_1 ?_
  refine a_iadd (pc := 1374) C dL_law_1374 ?_
  refine a_xald (pc := 1375) C hX hbA hw.1 dL_law_1375 ?_
  have hw := hw.2
  refine a_aload_3 (pc := 1376) C dL_law_1376 ?_
  refine l_callSW (pc := 1377) C hs [.ref x, .int (xs (i + 1).toNatClampNeg), .ref out] (st := []) 5000 hw.1 (fun h n u hB => ct_X0_drumOf l G _ _ _ (lE mo) _ _ _ hw.2 h n u hB) (by decide) (by decide) (lw_SW q1597 q1598 q64 q1599) sg_X0_drumOf (Nat.le_of_ble_eq_true rfl) dL_law_1377 (fun v2 σ1 hw => l_top (fun s1 es1 => ?_))
  have hw := hw s1 es1
  refine a_istore_5 (pc := 1380) C dL_law_1380 (by decide) rfl ?_
  refine a_aload_2 (pc := 1382) C dL_law_1382 ?_
  refine a_aload_0 (pc := 1383) C dL_law_1383 ?_
  refine a_iload_4 (pc := 1384) C dL_law_1384 ?_
  refine a_iconst (pc := 1386) C dL_law_1386 ic_1 ?_
  refine a_iadd (pc := 1387) C dL_law_1387 ?_
  refine a_xald (pc := 1388) C hX hbA hw.1 dL_law_1388 ?_
  have hw := hw.2
  refine l_callMi (pc := 1389) C hs [.int (xs (i + 1).toNatClampNeg)] (st := []) (fun h n u hV => ct_X6_drumOf l G _ _ _ _ hw h n u hV) (by decide) (by decide) rfl q77 q2045 q2046 q2047 (lw_meth q2048) sg_X6_drumOf (Nat.le_of_ble_eq_true rfl) dL_law_1389 (fun v4 μ1 hw => l_top (fun s3 es3 => ?_))
  have hw := hw s3 es3
  refine a_istore_6 (pc := 1392) C dL_law_1392 (by decide) rfl ?_
  refine a_aload_2 (pc := 1394) C dL_law_1394 ?_
  refine l_callMi (pc := 1395) C hs [] (st := []) (fun h n u hV => ct_X6_thrown l G _ _ _ hw h n u hV) (by decide) (by decide) rfl q77 q1786 q1787 q1788 (lw_meth q1789) sg_X6_thrown (Nat.le_of_ble_eq_true rfl) dL_law_1395 (fun v6 μ1 hw => l_top (fun s5 es5 => ?_))
  have hw := hw s5 es5
  refine a_iload_5 (pc := 1398) C dL_law_1398 ?_
  refine a_icmp_eq (pc := 1400) C 1405 dL_law_1400 (by decide) (fun c7 => ?_) (fun c7 => ?_)
  · have hw := hw.1 c7
    refine a_iload_5 (pc := 1405) C dL_law_1405 ?_
    refine a_if_ne (pc := 1407) C 1422 dL_law_1407 (by decide) (fun c8 => ?_) (fun c8 => ?_)
    · have hw := hw.1 c8
      refine a_goto (pc := 1422) C 2827 dL_law_1422 (by decide) ?_
      exact a_weak (a_le_some (a_le_some (a_le_some (a_le_some (a_le_some (a_le_none (a_le_none (a_le_none (a_le_none a_le_nil))))))))) (hKx _ hw)
    · have hw := hw.2 c8
      refine a_aload_3 (pc := 1410) C dL_law_1410 ?_
      refine a_iconst (pc := 1411) C dL_law_1411 ic_0 ?_
      obtain ⟨n9, f10, y1, y2, hw⟩ := hw
      refine l_laload (pc := 1412) C y1 y2 dL_law_1412 ?_
      refine a_iload_6 (pc := 1413) C dL_law_1413 ?_
      refine a_i2l (pc := 1415) C dL_law_1415 ?_
      refine a_lcmp (pc := 1416) C dL_law_1416 ?_
      refine a_if_eq (pc := 1417) C 1422 dL_law_1417 (by decide) (fun c11 => ?_) (fun c11 => ?_)
      · have hw := hw.1 c11
        refine a_goto (pc := 1422) C 2827 dL_law_1422 (by decide) ?_
        exact a_weak (a_le_some (a_le_some (a_le_some (a_le_some (a_le_some (a_le_none (a_le_none (a_le_none (a_le_none a_le_nil))))))))) (hKx _ hw)
      · have hw := hw.2 c11
        refine a_iconst (pc := 1420) C dL_law_1420 ic_0 ?_
        exact False.elim hw
  · have hw := hw.2 c7
    refine a_iconst (pc := 1403) C dL_law_1403 ic_0 ?_
    exact False.elim hw
def wp_law_24 (G : aG) (xs : Nat → Int32) (L9 x out : Nat) (i : Int32) (s0 : LWS) (Kx : LWS → Prop) : Prop := (vp_in (i + 1) L9 ∧ (5000 ≤ s0.1.2.2.1 ∧ wp_X0_weightOf x (xs (i + 1).toNatClampNeg) out (oXs s0.1 5000) (fun v2 σ1 => ∀ s1 : LWS, s1 = (oXs σ1 (s0.1.2.2.1 - 5000), s0.2) → (vp_in (i + 1) L9 ∧ wp_X6_weightOf (xs (i + 1).toNatClampNeg) s1.2 (fun v4 μ1 => ∀ s3 : LWS, s3 = (s1.1, μ1) → wp_X6_thrown s3.2 (fun v6 μ1 => ∀ s5 : LWS, s5 = (s3.1, μ1) → (((v6 = v2) → (((¬ v2 = 0) → (Kx s5)) ∧ ((v2 = 0) → (∃ (n9 : Nat) (f10 : Nat → Int64), s5.1.1 out = some (.inl (1, n9, .inr (.inl f10))) ∧ vp_in 0 n9 ∧ ((((lg_cmp (f10 (0 : Int32).toNatClampNeg) (v4.toInt64)) = 0) → (Kx s5)) ∧ ((¬ (lg_cmp (f10 (0 : Int32).toNatClampNeg) (v4.toInt64)) = 0) → False)))))) ∧ ((¬ v6 = v2) → False)))))) (fun _ _ => False)))
set_option maxHeartbeats 4000000 in
theorem law_24 {G : aG} {p : Program} {l : Launch} {e : Env} {s : State} {m : MethodId} {args : Array Value} {below : List Frame} {meth : Method} {c : Code} {A : Nat → Prop} {rt : Option FieldType} {Q : State → Prop} {nm : String} {KL n0 u0 mo b L9 x out : Nat} {xs : Nat → Int32} (C : Cx G p l s m args meth c A (yL nm) cL_law 9 rt) (hs : s.heap.size = n0 ∧ slT s.heap = u0) (hX : va_X b L9 xs s s.heap) (hbA : ¬ A b) (i : Int32) (s0 : LWS) (Kx : LWS → Prop) (hKx : ∀ s1 : LWS, Kx s1 → AW G p l e (aRm 200 KL (10 * KL)) s m args below meth c A 9 Q (LW n0 u0 KL mo s1.1 s1.2) 2827 [some (.ref b), some (.ref x), some (.ref mo), some (.ref out), some (.int i), none, none, none, none] []) (hw : wp_law_24 G xs L9 x out i s0 Kx) : AW G p l e (aRm 200 KL (10 * KL)) s m args below meth c A 9 Q (LW n0 u0 KL mo s0.1 s0.2) 1425 [some (.ref b), some (.ref x), some (.ref mo), some (.ref out), some (.int i), none, none, none, none] [] := by
  unfold wp_law_24 at hw
  refine a_aload_1 (pc := 1425) C dL_law_1425 ?_
  refine a_aload_0 (pc := 1426) C dL_law_1426 ?_
  refine a_iload_4 (pc := 1427) C dL_law_1427 ?_
  refine a_iconst (pc := 1429) C dL_law_1429 ic_1 ?_
  refine a_iadd (pc := 1430) C dL_law_1430 ?_
  refine a_xald (pc := 1431) C hX hbA hw.1 dL_law_1431 ?_
  have hw := hw.2
  refine a_aload_3 (pc := 1432) C dL_law_1432 ?_
  refine l_callSW (pc := 1433) C hs [.ref x, .int (xs (i + 1).toNatClampNeg), .ref out] (st := []) 5000 hw.1 (fun h n u hB => ct_X0_weightOf l G _ _ _ (lE mo) _ _ _ hw.2 h n u hB) (by decide) (by decide) (lw_SW q1605 q1606 q64 q1607) sg_X0_weightOf (Nat.le_of_ble_eq_true rfl) dL_law_1433 (fun v2 σ1 hw => l_top (fun s1 es1 => ?_))
  have hw := hw s1 es1
  refine a_istore_5 (pc := 1436) C dL_law_1436 (by decide) rfl ?_
  refine a_aload_2 (pc := 1438) C dL_law_1438 ?_
  refine a_aload_0 (pc := 1439) C dL_law_1439 ?_
  refine a_iload_4 (pc := 1440) C dL_law_1440 ?_
  refine a_iconst (pc := 1442) C dL_law_1442 ic_1 ?_
  refine a_iadd (pc := 1443) C dL_law_1443 ?_
  refine a_xald (pc := 1444) C hX hbA hw.1 dL_law_1444 ?_
  have hw := hw.2
  refine l_callMi (pc := 1445) C hs [.int (xs (i + 1).toNatClampNeg)] (st := []) (fun h n u hV => ct_X6_weightOf l G _ _ _ _ hw h n u hV) (by decide) (by decide) rfl q77 q2049 q2050 q2051 (lw_meth q2052) sg_X6_weightOf (Nat.le_of_ble_eq_true rfl) dL_law_1445 (fun v4 μ1 hw => l_top (fun s3 es3 => ?_))
  have hw := hw s3 es3
  refine a_istore_6 (pc := 1448) C dL_law_1448 (by decide) rfl ?_
  refine a_aload_2 (pc := 1450) C dL_law_1450 ?_
  refine l_callMi (pc := 1451) C hs [] (st := []) (fun h n u hV => ct_X6_thrown l G _ _ _ hw h n u hV) (by decide) (by decide) rfl q77 q1786 q1787 q1788 (lw_meth q1789) sg_X6_thrown (Nat.le_of_ble_eq_true rfl) dL_law_1451 (fun v6 μ1 hw => l_top (fun s5 es5 => ?_))
  have hw := hw s5 es5
  refine a_iload_5 (pc := 1454) C dL_law_1454 ?_
  refine a_icmp_eq (pc := 1456) C 1461 dL_law_1456 (by decide) (fun c7 => ?_) (fun c7 => ?_)
  · have hw := hw.1 c7
    refine a_iload_5 (pc := 1461) C dL_law_1461 ?_
    refine a_if_ne (pc := 1463) C 1478 dL_law_1463 (by decide) (fun c8 => ?_) (fun c8 => ?_)
    · have hw := hw.1 c8
      refine a_goto (pc := 1478) C 2827 dL_law_1478 (by decide) ?_
      exact a_weak (a_le_some (a_le_some (a_le_some (a_le_some (a_le_some (a_le_none (a_le_none (a_le_none (a_le_none a_le_nil))))))))) (hKx _ hw)
    · have hw := hw.2 c8
      refine a_aload_3 (pc := 1466) C dL_law_1466 ?_
      refine a_iconst (pc := 1467) C dL_law_1467 ic_0 ?_
      obtain ⟨n9, f10, y1, y2, hw⟩ := hw
      refine l_laload (pc := 1468) C y1 y2 dL_law_1468 ?_
      refine a_iload_6 (pc := 1469) C dL_law_1469 ?_
      refine a_i2l (pc := 1471) C dL_law_1471 ?_
      refine a_lcmp (pc := 1472) C dL_law_1472 ?_
      refine a_if_eq (pc := 1473) C 1478 dL_law_1473 (by decide) (fun c11 => ?_) (fun c11 => ?_)
      · have hw := hw.1 c11
        refine a_goto (pc := 1478) C 2827 dL_law_1478 (by decide) ?_
        exact a_weak (a_le_some (a_le_some (a_le_some (a_le_some (a_le_some (a_le_none (a_le_none (a_le_none (a_le_none a_le_nil))))))))) (hKx _ hw)
      · have hw := hw.2 c11
        refine a_iconst (pc := 1476) C dL_law_1476 ic_0 ?_
        exact False.elim hw
  · have hw := hw.2 c7
    refine a_iconst (pc := 1459) C dL_law_1459 ic_0 ?_
    exact False.elim hw
def wp_law_25 (G : aG) (xs : Nat → Int32) (L9 x out : Nat) (i : Int32) (s0 : LWS) (Kx : LWS → Prop) : Prop := (vp_in (i + 1) L9 ∧ (5000 ≤ s0.1.2.2.1 ∧ wp_X0_wetnessOf x (xs (i + 1).toNatClampNeg) out (oXs s0.1 5000) (fun v2 σ1 => ∀ s1 : LWS, s1 = (oXs σ1 (s0.1.2.2.1 - 5000), s0.2) → (vp_in (i + 1) L9 ∧ wp_X6_wetnessOf (xs (i + 1).toNatClampNeg) s1.2 (fun v4 μ1 => ∀ s3 : LWS, s3 = (s1.1, μ1) → wp_X6_thrown s3.2 (fun v6 μ1 => ∀ s5 : LWS, s5 = (s3.1, μ1) → (((v6 = v2) → (((¬ v2 = 0) → (Kx s5)) ∧ ((v2 = 0) → (∃ (n9 : Nat) (f10 : Nat → Int64), s5.1.1 out = some (.inl (1, n9, .inr (.inl f10))) ∧ vp_in 0 n9 ∧ ((((lg_cmp (f10 (0 : Int32).toNatClampNeg) (v4.toInt64)) = 0) → (Kx s5)) ∧ ((¬ (lg_cmp (f10 (0 : Int32).toNatClampNeg) (v4.toInt64)) = 0) → False)))))) ∧ ((¬ v6 = v2) → False)))))) (fun _ _ => False)))
set_option maxHeartbeats 4000000 in
theorem law_25 {G : aG} {p : Program} {l : Launch} {e : Env} {s : State} {m : MethodId} {args : Array Value} {below : List Frame} {meth : Method} {c : Code} {A : Nat → Prop} {rt : Option FieldType} {Q : State → Prop} {nm : String} {KL n0 u0 mo b L9 x out : Nat} {xs : Nat → Int32} (C : Cx G p l s m args meth c A (yL nm) cL_law 9 rt) (hs : s.heap.size = n0 ∧ slT s.heap = u0) (hX : va_X b L9 xs s s.heap) (hbA : ¬ A b) (i : Int32) (s0 : LWS) (Kx : LWS → Prop) (hKx : ∀ s1 : LWS, Kx s1 → AW G p l e (aRm 200 KL (10 * KL)) s m args below meth c A 9 Q (LW n0 u0 KL mo s1.1 s1.2) 2827 [some (.ref b), some (.ref x), some (.ref mo), some (.ref out), some (.int i), none, none, none, none] []) (hw : wp_law_25 G xs L9 x out i s0 Kx) : AW G p l e (aRm 200 KL (10 * KL)) s m args below meth c A 9 Q (LW n0 u0 KL mo s0.1 s0.2) 1481 [some (.ref b), some (.ref x), some (.ref mo), some (.ref out), some (.int i), none, none, none, none] [] := by
  unfold wp_law_25 at hw
  refine a_aload_1 (pc := 1481) C dL_law_1481 ?_
  refine a_aload_0 (pc := 1482) C dL_law_1482 ?_
  refine a_iload_4 (pc := 1483) C dL_law_1483 ?_
  refine a_iconst (pc := 1485) C dL_law_1485 ic_1 ?_
  refine a_iadd (pc := 1486) C dL_law_1486 ?_
  refine a_xald (pc := 1487) C hX hbA hw.1 dL_law_1487 ?_
  have hw := hw.2
  refine a_aload_3 (pc := 1488) C dL_law_1488 ?_
  refine l_callSW (pc := 1489) C hs [.ref x, .int (xs (i + 1).toNatClampNeg), .ref out] (st := []) 5000 hw.1 (fun h n u hB => ct_X0_wetnessOf l G _ _ _ (lE mo) _ _ _ hw.2 h n u hB) (by decide) (by decide) (lw_SW q1612 q1613 q64 q1614) sg_X0_wetnessOf (Nat.le_of_ble_eq_true rfl) dL_law_1489 (fun v2 σ1 hw => l_top (fun s1 es1 => ?_))
  have hw := hw s1 es1
  refine a_istore_5 (pc := 1492) C dL_law_1492 (by decide) rfl ?_
  refine a_aload_2 (pc := 1494) C dL_law_1494 ?_
  refine a_aload_0 (pc := 1495) C dL_law_1495 ?_
  refine a_iload_4 (pc := 1496) C dL_law_1496 ?_
  refine a_iconst (pc := 1498) C dL_law_1498 ic_1 ?_
  refine a_iadd (pc := 1499) C dL_law_1499 ?_
  refine a_xald (pc := 1500) C hX hbA hw.1 dL_law_1500 ?_
  have hw := hw.2
  refine l_callMi (pc := 1501) C hs [.int (xs (i + 1).toNatClampNeg)] (st := []) (fun h n u hV => ct_X6_wetnessOf l G _ _ _ _ hw h n u hV) (by decide) (by decide) rfl q77 q2053 q2054 q2055 (lw_meth q2056) sg_X6_wetnessOf (Nat.le_of_ble_eq_true rfl) dL_law_1501 (fun v4 μ1 hw => l_top (fun s3 es3 => ?_))
  have hw := hw s3 es3
  refine a_istore_6 (pc := 1504) C dL_law_1504 (by decide) rfl ?_
  refine a_aload_2 (pc := 1506) C dL_law_1506 ?_
  refine l_callMi (pc := 1507) C hs [] (st := []) (fun h n u hV => ct_X6_thrown l G _ _ _ hw h n u hV) (by decide) (by decide) rfl q77 q1786 q1787 q1788 (lw_meth q1789) sg_X6_thrown (Nat.le_of_ble_eq_true rfl) dL_law_1507 (fun v6 μ1 hw => l_top (fun s5 es5 => ?_))
  have hw := hw s5 es5
  refine a_iload_5 (pc := 1510) C dL_law_1510 ?_
  refine a_icmp_eq (pc := 1512) C 1517 dL_law_1512 (by decide) (fun c7 => ?_) (fun c7 => ?_)
  · have hw := hw.1 c7
    refine a_iload_5 (pc := 1517) C dL_law_1517 ?_
    refine a_if_ne (pc := 1519) C 1534 dL_law_1519 (by decide) (fun c8 => ?_) (fun c8 => ?_)
    · have hw := hw.1 c8
      refine a_goto (pc := 1534) C 2827 dL_law_1534 (by decide) ?_
      exact a_weak (a_le_some (a_le_some (a_le_some (a_le_some (a_le_some (a_le_none (a_le_none (a_le_none (a_le_none a_le_nil))))))))) (hKx _ hw)
    · have hw := hw.2 c8
      refine a_aload_3 (pc := 1522) C dL_law_1522 ?_
      refine a_iconst (pc := 1523) C dL_law_1523 ic_0 ?_
      obtain ⟨n9, f10, y1, y2, hw⟩ := hw
      refine l_laload (pc := 1524) C y1 y2 dL_law_1524 ?_
      refine a_iload_6 (pc := 1525) C dL_law_1525 ?_
      refine a_i2l (pc := 1527) C dL_law_1527 ?_
      refine a_lcmp (pc := 1528) C dL_law_1528 ?_
      refine a_if_eq (pc := 1529) C 1534 dL_law_1529 (by decide) (fun c11 => ?_) (fun c11 => ?_)
      · have hw := hw.1 c11
        refine a_goto (pc := 1534) C 2827 dL_law_1534 (by decide) ?_
        exact a_weak (a_le_some (a_le_some (a_le_some (a_le_some (a_le_some (a_le_none (a_le_none (a_le_none (a_le_none a_le_nil))))))))) (hKx _ hw)
      · have hw := hw.2 c11
        refine a_iconst (pc := 1532) C dL_law_1532 ic_0 ?_
        exact False.elim hw
  · have hw := hw.2 c7
    refine a_iconst (pc := 1515) C dL_law_1515 ic_0 ?_
    exact False.elim hw
def wp_law_26 (G : aG) (xs : Nat → Int32) (L9 x out : Nat) (i : Int32) (s0 : LWS) (Kx : LWS → Prop) : Prop := (vp_in (i + 1) L9 ∧ (5000 ≤ s0.1.2.2.1 ∧ wp_X0_growthOf x (xs (i + 1).toNatClampNeg) out (oXs s0.1 5000) (fun v2 σ1 => ∀ s1 : LWS, s1 = (oXs σ1 (s0.1.2.2.1 - 5000), s0.2) → (vp_in (i + 1) L9 ∧ wp_X6_growthOf (xs (i + 1).toNatClampNeg) s1.2 (fun v4 μ1 => ∀ s3 : LWS, s3 = (s1.1, μ1) → wp_X6_thrown s3.2 (fun v6 μ1 => ∀ s5 : LWS, s5 = (s3.1, μ1) → (((v6 = v2) → (((¬ v2 = 0) → (Kx s5)) ∧ ((v2 = 0) → (∃ (n9 : Nat) (f10 : Nat → Int64), s5.1.1 out = some (.inl (1, n9, .inr (.inl f10))) ∧ vp_in 0 n9 ∧ ((((lg_cmp (f10 (0 : Int32).toNatClampNeg) (v4.toInt64)) = 0) → (Kx s5)) ∧ ((¬ (lg_cmp (f10 (0 : Int32).toNatClampNeg) (v4.toInt64)) = 0) → False)))))) ∧ ((¬ v6 = v2) → False)))))) (fun _ _ => False)))
set_option maxHeartbeats 4000000 in
theorem law_26 {G : aG} {p : Program} {l : Launch} {e : Env} {s : State} {m : MethodId} {args : Array Value} {below : List Frame} {meth : Method} {c : Code} {A : Nat → Prop} {rt : Option FieldType} {Q : State → Prop} {nm : String} {KL n0 u0 mo b L9 x out : Nat} {xs : Nat → Int32} (C : Cx G p l s m args meth c A (yL nm) cL_law 9 rt) (hs : s.heap.size = n0 ∧ slT s.heap = u0) (hX : va_X b L9 xs s s.heap) (hbA : ¬ A b) (i : Int32) (s0 : LWS) (Kx : LWS → Prop) (hKx : ∀ s1 : LWS, Kx s1 → AW G p l e (aRm 200 KL (10 * KL)) s m args below meth c A 9 Q (LW n0 u0 KL mo s1.1 s1.2) 2827 [some (.ref b), some (.ref x), some (.ref mo), some (.ref out), some (.int i), none, none, none, none] []) (hw : wp_law_26 G xs L9 x out i s0 Kx) : AW G p l e (aRm 200 KL (10 * KL)) s m args below meth c A 9 Q (LW n0 u0 KL mo s0.1 s0.2) 1537 [some (.ref b), some (.ref x), some (.ref mo), some (.ref out), some (.int i), none, none, none, none] [] := by
  unfold wp_law_26 at hw
  refine a_aload_1 (pc := 1537) C dL_law_1537 ?_
  refine a_aload_0 (pc := 1538) C dL_law_1538 ?_
  refine a_iload_4 (pc := 1539) C dL_law_1539 ?_
  refine a_iconst (pc := 1541) C dL_law_1541 ic_1 ?_
  refine a_iadd (pc := 1542) C dL_law_1542 ?_
  refine a_xald (pc := 1543) C hX hbA hw.1 dL_law_1543 ?_
  have hw := hw.2
  refine a_aload_3 (pc := 1544) C dL_law_1544 ?_
  refine l_callSW (pc := 1545) C hs [.ref x, .int (xs (i + 1).toNatClampNeg), .ref out] (st := []) 5000 hw.1 (fun h n u hB => ct_X0_growthOf l G _ _ _ (lE mo) _ _ _ hw.2 h n u hB) (by decide) (by decide) (lw_SW q1619 q1620 q64 q1621) sg_X0_growthOf (Nat.le_of_ble_eq_true rfl) dL_law_1545 (fun v2 σ1 hw => l_top (fun s1 es1 => ?_))
  have hw := hw s1 es1
  refine a_istore_5 (pc := 1548) C dL_law_1548 (by decide) rfl ?_
  refine a_aload_2 (pc := 1550) C dL_law_1550 ?_
  refine a_aload_0 (pc := 1551) C dL_law_1551 ?_
  refine a_iload_4 (pc := 1552) C dL_law_1552 ?_
  refine a_iconst (pc := 1554) C dL_law_1554 ic_1 ?_
  refine a_iadd (pc := 1555) C dL_law_1555 ?_
  refine a_xald (pc := 1556) C hX hbA hw.1 dL_law_1556 ?_
  have hw := hw.2
  refine l_callMi (pc := 1557) C hs [.int (xs (i + 1).toNatClampNeg)] (st := []) (fun h n u hV => ct_X6_growthOf l G _ _ _ _ hw h n u hV) (by decide) (by decide) rfl q77 q2057 q2058 q2059 (lw_meth q2060) sg_X6_growthOf (Nat.le_of_ble_eq_true rfl) dL_law_1557 (fun v4 μ1 hw => l_top (fun s3 es3 => ?_))
  have hw := hw s3 es3
  refine a_istore_6 (pc := 1560) C dL_law_1560 (by decide) rfl ?_
  refine a_aload_2 (pc := 1562) C dL_law_1562 ?_
  refine l_callMi (pc := 1563) C hs [] (st := []) (fun h n u hV => ct_X6_thrown l G _ _ _ hw h n u hV) (by decide) (by decide) rfl q77 q1786 q1787 q1788 (lw_meth q1789) sg_X6_thrown (Nat.le_of_ble_eq_true rfl) dL_law_1563 (fun v6 μ1 hw => l_top (fun s5 es5 => ?_))
  have hw := hw s5 es5
  refine a_iload_5 (pc := 1566) C dL_law_1566 ?_
  refine a_icmp_eq (pc := 1568) C 1573 dL_law_1568 (by decide) (fun c7 => ?_) (fun c7 => ?_)
  · have hw := hw.1 c7
    refine a_iload_5 (pc := 1573) C dL_law_1573 ?_
    refine a_if_ne (pc := 1575) C 1590 dL_law_1575 (by decide) (fun c8 => ?_) (fun c8 => ?_)
    · have hw := hw.1 c8
      refine a_goto (pc := 1590) C 2827 dL_law_1590 (by decide) ?_
      exact a_weak (a_le_some (a_le_some (a_le_some (a_le_some (a_le_some (a_le_none (a_le_none (a_le_none (a_le_none a_le_nil))))))))) (hKx _ hw)
    · have hw := hw.2 c8
      refine a_aload_3 (pc := 1578) C dL_law_1578 ?_
      refine a_iconst (pc := 1579) C dL_law_1579 ic_0 ?_
      obtain ⟨n9, f10, y1, y2, hw⟩ := hw
      refine l_laload (pc := 1580) C y1 y2 dL_law_1580 ?_
      refine a_iload_6 (pc := 1581) C dL_law_1581 ?_
      refine a_i2l (pc := 1583) C dL_law_1583 ?_
      refine a_lcmp (pc := 1584) C dL_law_1584 ?_
      refine a_if_eq (pc := 1585) C 1590 dL_law_1585 (by decide) (fun c11 => ?_) (fun c11 => ?_)
      · have hw := hw.1 c11
        refine a_goto (pc := 1590) C 2827 dL_law_1590 (by decide) ?_
        exact a_weak (a_le_some (a_le_some (a_le_some (a_le_some (a_le_some (a_le_none (a_le_none (a_le_none (a_le_none a_le_nil))))))))) (hKx _ hw)
      · have hw := hw.2 c11
        refine a_iconst (pc := 1588) C dL_law_1588 ic_0 ?_
        exact False.elim hw
  · have hw := hw.2 c7
    refine a_iconst (pc := 1571) C dL_law_1571 ic_0 ?_
    exact False.elim hw
def wp_law_27 (G : aG) (xs : Nat → Int32) (L9 x out : Nat) (i : Int32) (s0 : LWS) (Kx : LWS → Prop) : Prop := (vp_in (i + 1) L9 ∧ (5000 ≤ s0.1.2.2.1 ∧ wp_X0_heatOf x (xs (i + 1).toNatClampNeg) out (oXs s0.1 5000) (fun v2 σ1 => ∀ s1 : LWS, s1 = (oXs σ1 (s0.1.2.2.1 - 5000), s0.2) → (vp_in (i + 1) L9 ∧ wp_X6_heatOf (xs (i + 1).toNatClampNeg) s1.2 (fun v4 μ1 => ∀ s3 : LWS, s3 = (s1.1, μ1) → wp_X6_thrown s3.2 (fun v6 μ1 => ∀ s5 : LWS, s5 = (s3.1, μ1) → (((v6 = v2) → (((¬ v2 = 0) → (Kx s5)) ∧ ((v2 = 0) → (∃ (n9 : Nat) (f10 : Nat → Int64), s5.1.1 out = some (.inl (1, n9, .inr (.inl f10))) ∧ vp_in 0 n9 ∧ ((((lg_cmp (f10 (0 : Int32).toNatClampNeg) (v4.toInt64)) = 0) → (Kx s5)) ∧ ((¬ (lg_cmp (f10 (0 : Int32).toNatClampNeg) (v4.toInt64)) = 0) → False)))))) ∧ ((¬ v6 = v2) → False)))))) (fun _ _ => False)))
set_option maxHeartbeats 4000000 in
theorem law_27 {G : aG} {p : Program} {l : Launch} {e : Env} {s : State} {m : MethodId} {args : Array Value} {below : List Frame} {meth : Method} {c : Code} {A : Nat → Prop} {rt : Option FieldType} {Q : State → Prop} {nm : String} {KL n0 u0 mo b L9 x out : Nat} {xs : Nat → Int32} (C : Cx G p l s m args meth c A (yL nm) cL_law 9 rt) (hs : s.heap.size = n0 ∧ slT s.heap = u0) (hX : va_X b L9 xs s s.heap) (hbA : ¬ A b) (i : Int32) (s0 : LWS) (Kx : LWS → Prop) (hKx : ∀ s1 : LWS, Kx s1 → AW G p l e (aRm 200 KL (10 * KL)) s m args below meth c A 9 Q (LW n0 u0 KL mo s1.1 s1.2) 2827 [some (.ref b), some (.ref x), some (.ref mo), some (.ref out), some (.int i), none, none, none, none] []) (hw : wp_law_27 G xs L9 x out i s0 Kx) : AW G p l e (aRm 200 KL (10 * KL)) s m args below meth c A 9 Q (LW n0 u0 KL mo s0.1 s0.2) 1593 [some (.ref b), some (.ref x), some (.ref mo), some (.ref out), some (.int i), none, none, none, none] [] := by
  unfold wp_law_27 at hw
  refine a_aload_1 (pc := 1593) C dL_law_1593 ?_
  refine a_aload_0 (pc := 1594) C dL_law_1594 ?_
  refine a_iload_4 (pc := 1595) C dL_law_1595 ?_
  refine a_iconst (pc := 1597) C dL_law_1597 ic_1 ?_
  refine a_iadd (pc := 1598) C dL_law_1598 ?_
  refine a_xald (pc := 1599) C hX hbA hw.1 dL_law_1599 ?_
  have hw := hw.2
  refine a_aload_3 (pc := 1600) C dL_law_1600 ?_
  refine l_callSW (pc := 1601) C hs [.ref x, .int (xs (i + 1).toNatClampNeg), .ref out] (st := []) 5000 hw.1 (fun h n u hB => ct_X0_heatOf l G _ _ _ (lE mo) _ _ _ hw.2 h n u hB) (by decide) (by decide) (lw_SW q1626 q1627 q64 q1628) sg_X0_heatOf (Nat.le_of_ble_eq_true rfl) dL_law_1601 (fun v2 σ1 hw => l_top (fun s1 es1 => ?_))
  have hw := hw s1 es1
  refine a_istore_5 (pc := 1604) C dL_law_1604 (by decide) rfl ?_
  refine a_aload_2 (pc := 1606) C dL_law_1606 ?_
  refine a_aload_0 (pc := 1607) C dL_law_1607 ?_
  refine a_iload_4 (pc := 1608) C dL_law_1608 ?_
  refine a_iconst (pc := 1610) C dL_law_1610 ic_1 ?_
  refine a_iadd (pc := 1611) C dL_law_1611 ?_
  refine a_xald (pc := 1612) C hX hbA hw.1 dL_law_1612 ?_
  have hw := hw.2
  refine l_callMi (pc := 1613) C hs [.int (xs (i + 1).toNatClampNeg)] (st := []) (fun h n u hV => ct_X6_heatOf l G _ _ _ _ hw h n u hV) (by decide) (by decide) rfl q77 q2061 q2062 q2063 (lw_meth q2064) sg_X6_heatOf (Nat.le_of_ble_eq_true rfl) dL_law_1613 (fun v4 μ1 hw => l_top (fun s3 es3 => ?_))
  have hw := hw s3 es3
  refine a_istore_6 (pc := 1616) C dL_law_1616 (by decide) rfl ?_
  refine a_aload_2 (pc := 1618) C dL_law_1618 ?_
  refine l_callMi (pc := 1619) C hs [] (st := []) (fun h n u hV => ct_X6_thrown l G _ _ _ hw h n u hV) (by decide) (by decide) rfl q77 q1786 q1787 q1788 (lw_meth q1789) sg_X6_thrown (Nat.le_of_ble_eq_true rfl) dL_law_1619 (fun v6 μ1 hw => l_top (fun s5 es5 => ?_))
  have hw := hw s5 es5
  refine a_iload_5 (pc := 1622) C dL_law_1622 ?_
  refine a_icmp_eq (pc := 1624) C 1629 dL_law_1624 (by decide) (fun c7 => ?_) (fun c7 => ?_)
  · have hw := hw.1 c7
    refine a_iload_5 (pc := 1629) C dL_law_1629 ?_
    refine a_if_ne (pc := 1631) C 1646 dL_law_1631 (by decide) (fun c8 => ?_) (fun c8 => ?_)
    · have hw := hw.1 c8
      refine a_goto (pc := 1646) C 2827 dL_law_1646 (by decide) ?_
      exact a_weak (a_le_some (a_le_some (a_le_some (a_le_some (a_le_some (a_le_none (a_le_none (a_le_none (a_le_none a_le_nil))))))))) (hKx _ hw)
    · have hw := hw.2 c8
      refine a_aload_3 (pc := 1634) C dL_law_1634 ?_
      refine a_iconst (pc := 1635) C dL_law_1635 ic_0 ?_
      obtain ⟨n9, f10, y1, y2, hw⟩ := hw
      refine l_laload (pc := 1636) C y1 y2 dL_law_1636 ?_
      refine a_iload_6 (pc := 1637) C dL_law_1637 ?_
      refine a_i2l (pc := 1639) C dL_law_1639 ?_
      refine a_lcmp (pc := 1640) C dL_law_1640 ?_
      refine a_if_eq (pc := 1641) C 1646 dL_law_1641 (by decide) (fun c11 => ?_) (fun c11 => ?_)
      · have hw := hw.1 c11
        refine a_goto (pc := 1646) C 2827 dL_law_1646 (by decide) ?_
        exact a_weak (a_le_some (a_le_some (a_le_some (a_le_some (a_le_some (a_le_none (a_le_none (a_le_none (a_le_none a_le_nil))))))))) (hKx _ hw)
      · have hw := hw.2 c11
        refine a_iconst (pc := 1644) C dL_law_1644 ic_0 ?_
        exact False.elim hw
  · have hw := hw.2 c7
    refine a_iconst (pc := 1627) C dL_law_1627 ic_0 ?_
    exact False.elim hw
def wp_law_28 (G : aG) (xs : Nat → Int32) (L9 x out : Nat) (i : Int32) (s0 : LWS) (Kx : LWS → Prop) : Prop := (vp_in (i + 1) L9 ∧ (5000 ≤ s0.1.2.2.1 ∧ wp_X0_feltOf x (xs (i + 1).toNatClampNeg) out (oXs s0.1 5000) (fun v2 σ1 => ∀ s1 : LWS, s1 = (oXs σ1 (s0.1.2.2.1 - 5000), s0.2) → (vp_in (i + 1) L9 ∧ wp_X6_feltOf (xs (i + 1).toNatClampNeg) s1.2 (fun v4 μ1 => ∀ s3 : LWS, s3 = (s1.1, μ1) → wp_X6_thrown s3.2 (fun v6 μ1 => ∀ s5 : LWS, s5 = (s3.1, μ1) → (((v6 = v2) → (((¬ v2 = 0) → (Kx s5)) ∧ ((v2 = 0) → (∃ (n9 : Nat) (f10 : Nat → Int64), s5.1.1 out = some (.inl (1, n9, .inr (.inl f10))) ∧ vp_in 0 n9 ∧ ((((lg_cmp (f10 (0 : Int32).toNatClampNeg) (v4.toInt64)) = 0) → (Kx s5)) ∧ ((¬ (lg_cmp (f10 (0 : Int32).toNatClampNeg) (v4.toInt64)) = 0) → False)))))) ∧ ((¬ v6 = v2) → False)))))) (fun _ _ => False)))
set_option maxHeartbeats 4000000 in
theorem law_28 {G : aG} {p : Program} {l : Launch} {e : Env} {s : State} {m : MethodId} {args : Array Value} {below : List Frame} {meth : Method} {c : Code} {A : Nat → Prop} {rt : Option FieldType} {Q : State → Prop} {nm : String} {KL n0 u0 mo b L9 x out : Nat} {xs : Nat → Int32} (C : Cx G p l s m args meth c A (yL nm) cL_law 9 rt) (hs : s.heap.size = n0 ∧ slT s.heap = u0) (hX : va_X b L9 xs s s.heap) (hbA : ¬ A b) (i : Int32) (s0 : LWS) (Kx : LWS → Prop) (hKx : ∀ s1 : LWS, Kx s1 → AW G p l e (aRm 200 KL (10 * KL)) s m args below meth c A 9 Q (LW n0 u0 KL mo s1.1 s1.2) 2827 [some (.ref b), some (.ref x), some (.ref mo), some (.ref out), some (.int i), none, none, none, none] []) (hw : wp_law_28 G xs L9 x out i s0 Kx) : AW G p l e (aRm 200 KL (10 * KL)) s m args below meth c A 9 Q (LW n0 u0 KL mo s0.1 s0.2) 1649 [some (.ref b), some (.ref x), some (.ref mo), some (.ref out), some (.int i), none, none, none, none] [] := by
  unfold wp_law_28 at hw
  refine a_aload_1 (pc := 1649) C dL_law_1649 ?_
  refine a_aload_0 (pc := 1650) C dL_law_1650 ?_
  refine a_iload_4 (pc := 1651) C dL_law_1651 ?_
  refine a_iconst (pc := 1653) C dL_law_1653 ic_1 ?_
  refine a_iadd (pc := 1654) C dL_law_1654 ?_
  refine a_xald (pc := 1655) C hX hbA hw.1 dL_law_1655 ?_
  have hw := hw.2
  refine a_aload_3 (pc := 1656) C dL_law_1656 ?_
  refine l_callSW (pc := 1657) C hs [.ref x, .int (xs (i + 1).toNatClampNeg), .ref out] (st := []) 5000 hw.1 (fun h n u hB => ct_X0_feltOf l G _ _ _ (lE mo) _ _ _ hw.2 h n u hB) (by decide) (by decide) (lw_SW q1633 q1634 q64 q1635) sg_X0_feltOf (Nat.le_of_ble_eq_true rfl) dL_law_1657 (fun v2 σ1 hw => l_top (fun s1 es1 => ?_))
  have hw := hw s1 es1
  refine a_istore_5 (pc := 1660) C dL_law_1660 (by decide) rfl ?_
  refine a_aload_2 (pc := 1662) C dL_law_1662 ?_
  refine a_aload_0 (pc := 1663) C dL_law_1663 ?_
  refine a_iload_4 (pc := 1664) C dL_law_1664 ?_
  refine a_iconst (pc := 1666) C dL_law_1666 ic_1 ?_
  refine a_iadd (pc := 1667) C dL_law_1667 ?_
  refine a_xald (pc := 1668) C hX hbA hw.1 dL_law_1668 ?_
  have hw := hw.2
  refine l_callMi (pc := 1669) C hs [.int (xs (i + 1).toNatClampNeg)] (st := []) (fun h n u hV => ct_X6_feltOf l G _ _ _ _ hw h n u hV) (by decide) (by decide) rfl q77 q2065 q2066 q2067 (lw_meth q2068) sg_X6_feltOf (Nat.le_of_ble_eq_true rfl) dL_law_1669 (fun v4 μ1 hw => l_top (fun s3 es3 => ?_))
  have hw := hw s3 es3
  refine a_istore_6 (pc := 1672) C dL_law_1672 (by decide) rfl ?_
  refine a_aload_2 (pc := 1674) C dL_law_1674 ?_
  refine l_callMi (pc := 1675) C hs [] (st := []) (fun h n u hV => ct_X6_thrown l G _ _ _ hw h n u hV) (by decide) (by decide) rfl q77 q1786 q1787 q1788 (lw_meth q1789) sg_X6_thrown (Nat.le_of_ble_eq_true rfl) dL_law_1675 (fun v6 μ1 hw => l_top (fun s5 es5 => ?_))
  have hw := hw s5 es5
  refine a_iload_5 (pc := 1678) C dL_law_1678 ?_
  refine a_icmp_eq (pc := 1680) C 1685 dL_law_1680 (by decide) (fun c7 => ?_) (fun c7 => ?_)
  · have hw := hw.1 c7
    refine a_iload_5 (pc := 1685) C dL_law_1685 ?_
    refine a_if_ne (pc := 1687) C 1702 dL_law_1687 (by decide) (fun c8 => ?_) (fun c8 => ?_)
    · have hw := hw.1 c8
      refine a_goto (pc := 1702) C 2827 dL_law_1702 (by decide) ?_
      exact a_weak (a_le_some (a_le_some (a_le_some (a_le_some (a_le_some (a_le_none (a_le_none (a_le_none (a_le_none a_le_nil))))))))) (hKx _ hw)
    · have hw := hw.2 c8
      refine a_aload_3 (pc := 1690) C dL_law_1690 ?_
      refine a_iconst (pc := 1691) C dL_law_1691 ic_0 ?_
      obtain ⟨n9, f10, y1, y2, hw⟩ := hw
      refine l_laload (pc := 1692) C y1 y2 dL_law_1692 ?_
      refine a_iload_6 (pc := 1693) C dL_law_1693 ?_
      refine a_i2l (pc := 1695) C dL_law_1695 ?_
      refine a_lcmp (pc := 1696) C dL_law_1696 ?_
      refine a_if_eq (pc := 1697) C 1702 dL_law_1697 (by decide) (fun c11 => ?_) (fun c11 => ?_)
      · have hw := hw.1 c11
        refine a_goto (pc := 1702) C 2827 dL_law_1702 (by decide) ?_
        exact a_weak (a_le_some (a_le_some (a_le_some (a_le_some (a_le_some (a_le_none (a_le_none (a_le_none (a_le_none a_le_nil))))))))) (hKx _ hw)
      · have hw := hw.2 c11
        refine a_iconst (pc := 1700) C dL_law_1700 ic_0 ?_
        exact False.elim hw
  · have hw := hw.2 c7
    refine a_iconst (pc := 1683) C dL_law_1683 ic_0 ?_
    exact False.elim hw
def wp_law_29 (G : aG) (xs : Nat → Int32) (L9 x out : Nat) (i : Int32) (s0 : LWS) (Kx : LWS → Prop) : Prop := (vp_in (i + 1) L9 ∧ (5000 ≤ s0.1.2.2.1 ∧ wp_X0_isGlassy x (xs (i + 1).toNatClampNeg) out (oXs s0.1 5000) (fun v2 σ1 => ∀ s1 : LWS, s1 = (oXs σ1 (s0.1.2.2.1 - 5000), s0.2) → (vp_in (i + 1) L9 ∧ wp_X6_isGlassy (xs (i + 1).toNatClampNeg) s1.2 (fun v4 μ1 => ∀ s3 : LWS, s3 = (s1.1, μ1) → wp_X6_thrown s3.2 (fun v6 μ1 => ∀ s5 : LWS, s5 = (s3.1, μ1) → (((v6 = v2) → (((¬ v2 = 0) → (Kx s5)) ∧ ((v2 = 0) → (∃ (n9 : Nat) (f10 : Nat → Int64), s5.1.1 out = some (.inl (1, n9, .inr (.inl f10))) ∧ vp_in 0 n9 ∧ (jn (fun (x13 : Int64) => ((((lg_cmp (f10 (0 : Int32).toNatClampNeg) x13) = 0) → (Kx s5)) ∧ ((¬ (lg_cmp (f10 (0 : Int32).toNatClampNeg) x13) = 0) → False))) (fun kj12 => (((v4 = 0) → (kj12 ((0 : Int64)))) ∧ ((¬ v4 = 0) → (kj12 ((1 : Int64))))))))))) ∧ ((¬ v6 = v2) → False)))))) (fun _ _ => False)))
set_option maxHeartbeats 4000000 in
theorem law_29 {G : aG} {p : Program} {l : Launch} {e : Env} {s : State} {m : MethodId} {args : Array Value} {below : List Frame} {meth : Method} {c : Code} {A : Nat → Prop} {rt : Option FieldType} {Q : State → Prop} {nm : String} {KL n0 u0 mo b L9 x out : Nat} {xs : Nat → Int32} (C : Cx G p l s m args meth c A (yL nm) cL_law 9 rt) (hs : s.heap.size = n0 ∧ slT s.heap = u0) (hX : va_X b L9 xs s s.heap) (hbA : ¬ A b) (i : Int32) (s0 : LWS) (Kx : LWS → Prop) (hKx : ∀ s1 : LWS, Kx s1 → AW G p l e (aRm 200 KL (10 * KL)) s m args below meth c A 9 Q (LW n0 u0 KL mo s1.1 s1.2) 2827 [some (.ref b), some (.ref x), some (.ref mo), some (.ref out), some (.int i), none, none, none, none] []) (hw : wp_law_29 G xs L9 x out i s0 Kx) : AW G p l e (aRm 200 KL (10 * KL)) s m args below meth c A 9 Q (LW n0 u0 KL mo s0.1 s0.2) 1705 [some (.ref b), some (.ref x), some (.ref mo), some (.ref out), some (.int i), none, none, none, none] [] := by
  unfold wp_law_29 at hw
  refine a_aload_1 (pc := 1705) C dL_law_1705 ?_
  refine a_aload_0 (pc := 1706) C dL_law_1706 ?_
  refine a_iload_4 (pc := 1707) C dL_law_1707 ?_
  refine a_iconst (pc := 1709) C dL_law_1709 ic_1 ?_
  refine a_iadd (pc := 1710) C dL_law_1710 ?_
  refine a_xald (pc := 1711) C hX hbA hw.1 dL_law_1711 ?_
  have hw := hw.2
  refine a_aload_3 (pc := 1712) C dL_law_1712 ?_
  refine l_callSW (pc := 1713) C hs [.ref x, .int (xs (i + 1).toNatClampNeg), .ref out] (st := []) 5000 hw.1 (fun h n u hB => ct_X0_isGlassy l G _ _ _ (lE mo) _ _ _ hw.2 h n u hB) (by decide) (by decide) (lw_SW q1640 q1641 q64 q1642) sg_X0_isGlassy (Nat.le_of_ble_eq_true rfl) dL_law_1713 (fun v2 σ1 hw => l_top (fun s1 es1 => ?_))
  have hw := hw s1 es1
  refine a_istore_5 (pc := 1716) C dL_law_1716 (by decide) rfl ?_
  refine a_aload_2 (pc := 1718) C dL_law_1718 ?_
  refine a_aload_0 (pc := 1719) C dL_law_1719 ?_
  refine a_iload_4 (pc := 1720) C dL_law_1720 ?_
  refine a_iconst (pc := 1722) C dL_law_1722 ic_1 ?_
  refine a_iadd (pc := 1723) C dL_law_1723 ?_
  refine a_xald (pc := 1724) C hX hbA hw.1 dL_law_1724 ?_
  have hw := hw.2
  refine l_callMi (pc := 1725) C hs [.int (xs (i + 1).toNatClampNeg)] (st := []) (fun h n u hV => ct_X6_isGlassy l G _ _ _ _ hw h n u hV) (by decide) (by decide) rfl q77 q2069 q2070 q2071 (lw_meth q2072) sg_X6_isGlassy (Nat.le_of_ble_eq_true rfl) dL_law_1725 (fun v4 μ1 hw => l_top (fun s3 es3 => ?_))
  have hw := hw s3 es3
  refine a_istore_6 (pc := 1728) C dL_law_1728 (by decide) rfl ?_
  refine a_aload_2 (pc := 1730) C dL_law_1730 ?_
  refine l_callMi (pc := 1731) C hs [] (st := []) (fun h n u hV => ct_X6_thrown l G _ _ _ hw h n u hV) (by decide) (by decide) rfl q77 q1786 q1787 q1788 (lw_meth q1789) sg_X6_thrown (Nat.le_of_ble_eq_true rfl) dL_law_1731 (fun v6 μ1 hw => l_top (fun s5 es5 => ?_))
  have hw := hw s5 es5
  refine a_iload_5 (pc := 1734) C dL_law_1734 ?_
  refine a_icmp_eq (pc := 1736) C 1741 dL_law_1736 (by decide) (fun c7 => ?_) (fun c7 => ?_)
  · have hw := hw.1 c7
    refine a_iload_5 (pc := 1741) C dL_law_1741 ?_
    refine a_if_ne (pc := 1743) C 1765 dL_law_1743 (by decide) (fun c8 => ?_) (fun c8 => ?_)
    · have hw := hw.1 c8
      refine a_goto (pc := 1765) C 2827 dL_law_1765 (by decide) ?_
      exact a_weak (a_le_some (a_le_some (a_le_some (a_le_some (a_le_some (a_le_none (a_le_none (a_le_none (a_le_none a_le_nil))))))))) (hKx _ hw)
    · have hw := hw.2 c8
      refine a_aload_3 (pc := 1746) C dL_law_1746 ?_
      refine a_iconst (pc := 1747) C dL_law_1747 ic_0 ?_
      obtain ⟨n9, f10, y1, y2, hw⟩ := hw
      refine l_laload (pc := 1748) C y1 y2 dL_law_1748 ?_
      refine a_iload_6 (pc := 1749) C dL_law_1749 ?_
      refine jn_use hw (fun kj12 ekj12 hw => ?_)
      have hkj12 : ∀ (x13 : Int64), kj12 x13 → AW G p l e (aRm 200 KL (10 * KL)) s m args below meth c A 9 Q (LW n0 u0 KL mo s5.1 s5.2) 1759 [some (.ref b), some (.ref x), some (.ref mo), some (.ref out), some (.int i), some (.int v2), some (.int v4), none, none] [.long x13, .long (f10 (0 : Int32).toNatClampNeg)] := by
        intro x13 hw
        rw [ekj12] at hw
        refine a_lcmp (pc := 1759) C dL_law_1759 ?_
        refine a_if_eq (pc := 1760) C 1765 dL_law_1760 (by decide) (fun c14 => ?_) (fun c14 => ?_)
        · have hw := hw.1 c14
          refine a_goto (pc := 1765) C 2827 dL_law_1765 (by decide) ?_
          exact a_weak (a_le_some (a_le_some (a_le_some (a_le_some (a_le_some (a_le_none (a_le_none (a_le_none (a_le_none a_le_nil))))))))) (hKx _ hw)
        · have hw := hw.2 c14
          refine a_iconst (pc := 1763) C dL_law_1763 ic_0 ?_
          exact False.elim hw
      refine a_if_eq (pc := 1751) C 1758 dL_law_1751 (by decide) (fun c11 => ?_) (fun c11 => ?_)
      · have hw := hw.1 c11
        refine a_lconst (pc := 1758) (v := 0) C dL_law_1758 (by decide) ?_
        exact hkj12 _ hw
      · have hw := hw.2 c11
        refine a_lconst (pc := 1754) (v := 1) C dL_law_1754 (by decide) ?_
        refine a_goto (pc := 1755) C 1759 dL_law_1755 (by decide) ?_
        exact hkj12 _ hw
  · have hw := hw.2 c7
    refine a_iconst (pc := 1739) C dL_law_1739 ic_0 ?_
    exact False.elim hw
def wp_law_30 (G : aG) (xs : Nat → Int32) (L9 x out : Nat) (i : Int32) (s0 : LWS) (Kx : LWS → Prop) : Prop := (vp_in (i + 1) L9 ∧ (5000 ≤ s0.1.2.2.1 ∧ wp_X0_paceOf x (xs (i + 1).toNatClampNeg) out (oXs s0.1 5000) (fun v2 σ1 => ∀ s1 : LWS, s1 = (oXs σ1 (s0.1.2.2.1 - 5000), s0.2) → (vp_in (i + 1) L9 ∧ wp_X6_paceOf (xs (i + 1).toNatClampNeg) s1.2 (fun v4 μ1 => ∀ s3 : LWS, s3 = (s1.1, μ1) → wp_X6_thrown s3.2 (fun v6 μ1 => ∀ s5 : LWS, s5 = (s3.1, μ1) → (((v6 = v2) → (((¬ v2 = 0) → (Kx s5)) ∧ ((v2 = 0) → (∃ (n9 : Nat) (f10 : Nat → Int64), s5.1.1 out = some (.inl (1, n9, .inr (.inl f10))) ∧ vp_in 0 n9 ∧ ((((lg_cmp (f10 (0 : Int32).toNatClampNeg) (v4.toInt64)) = 0) → (Kx s5)) ∧ ((¬ (lg_cmp (f10 (0 : Int32).toNatClampNeg) (v4.toInt64)) = 0) → False)))))) ∧ ((¬ v6 = v2) → False)))))) (fun _ _ => False)))
set_option maxHeartbeats 4000000 in
theorem law_30 {G : aG} {p : Program} {l : Launch} {e : Env} {s : State} {m : MethodId} {args : Array Value} {below : List Frame} {meth : Method} {c : Code} {A : Nat → Prop} {rt : Option FieldType} {Q : State → Prop} {nm : String} {KL n0 u0 mo b L9 x out : Nat} {xs : Nat → Int32} (C : Cx G p l s m args meth c A (yL nm) cL_law 9 rt) (hs : s.heap.size = n0 ∧ slT s.heap = u0) (hX : va_X b L9 xs s s.heap) (hbA : ¬ A b) (i : Int32) (s0 : LWS) (Kx : LWS → Prop) (hKx : ∀ s1 : LWS, Kx s1 → AW G p l e (aRm 200 KL (10 * KL)) s m args below meth c A 9 Q (LW n0 u0 KL mo s1.1 s1.2) 2827 [some (.ref b), some (.ref x), some (.ref mo), some (.ref out), some (.int i), none, none, none, none] []) (hw : wp_law_30 G xs L9 x out i s0 Kx) : AW G p l e (aRm 200 KL (10 * KL)) s m args below meth c A 9 Q (LW n0 u0 KL mo s0.1 s0.2) 1768 [some (.ref b), some (.ref x), some (.ref mo), some (.ref out), some (.int i), none, none, none, none] [] := by
  unfold wp_law_30 at hw
  refine a_aload_1 (pc := 1768) C dL_law_1768 ?_
  refine a_aload_0 (pc := 1769) C dL_law_1769 ?_
  refine a_iload_4 (pc := 1770) C dL_law_1770 ?_
  refine a_iconst (pc := 1772) C dL_law_1772 ic_1 ?_
  refine a_iadd (pc := 1773) C dL_law_1773 ?_
  refine a_xald (pc := 1774) C hX hbA hw.1 dL_law_1774 ?_
  have hw := hw.2
  refine a_aload_3 (pc := 1775) C dL_law_1775 ?_
  refine l_callSW (pc := 1776) C hs [.ref x, .int (xs (i + 1).toNatClampNeg), .ref out] (st := []) 5000 hw.1 (fun h n u hB => ct_X0_paceOf l G _ _ _ (lE mo) _ _ _ hw.2 h n u hB) (by decide) (by decide) (lw_SW q1647 q1648 q64 q1649) sg_X0_paceOf (Nat.le_of_ble_eq_true rfl) dL_law_1776 (fun v2 σ1 hw => l_top (fun s1 es1 => ?_))
  have hw := hw s1 es1
  refine a_istore_5 (pc := 1779) C dL_law_1779 (by decide) rfl ?_
  refine a_aload_2 (pc := 1781) C dL_law_1781 ?_
  refine a_aload_0 (pc := 1782) C dL_law_1782 ?_
  refine a_iload_4 (pc := 1783) C dL_law_1783 ?_
  refine a_iconst (pc := 1785) C dL_law_1785 ic_1 ?_
  refine a_iadd (pc := 1786) C dL_law_1786 ?_
  refine a_xald (pc := 1787) C hX hbA hw.1 dL_law_1787 ?_
  have hw := hw.2
  refine l_callMi (pc := 1788) C hs [.int (xs (i + 1).toNatClampNeg)] (st := []) (fun h n u hV => ct_X6_paceOf l G _ _ _ _ hw h n u hV) (by decide) (by decide) rfl q77 q2073 q2074 q2075 (lw_meth q2076) sg_X6_paceOf (Nat.le_of_ble_eq_true rfl) dL_law_1788 (fun v4 μ1 hw => l_top (fun s3 es3 => ?_))
  have hw := hw s3 es3
  refine a_istore_6 (pc := 1791) C dL_law_1791 (by decide) rfl ?_
  refine a_aload_2 (pc := 1793) C dL_law_1793 ?_
  refine l_callMi (pc := 1794) C hs [] (st := []) (fun h n u hV => ct_X6_thrown l G _ _ _ hw h n u hV) (by decide) (by decide) rfl q77 q1786 q1787 q1788 (lw_meth q1789) sg_X6_thrown (Nat.le_of_ble_eq_true rfl) dL_law_1794 (fun v6 μ1 hw => l_top (fun s5 es5 => ?_))
  have hw := hw s5 es5
  refine a_iload_5 (pc := 1797) C dL_law_1797 ?_
  refine a_icmp_eq (pc := 1799) C 1804 dL_law_1799 (by decide) (fun c7 => ?_) (fun c7 => ?_)
  · have hw := hw.1 c7
    refine a_iload_5 (pc := 1804) C dL_law_1804 ?_
    refine a_if_ne (pc := 1806) C 1821 dL_law_1806 (by decide) (fun c8 => ?_) (fun c8 => ?_)
    · have hw := hw.1 c8
      refine a_goto (pc := 1821) C 2827 dL_law_1821 (by decide) ?_
      exact a_weak (a_le_some (a_le_some (a_le_some (a_le_some (a_le_some (a_le_none (a_le_none (a_le_none (a_le_none a_le_nil))))))))) (hKx _ hw)
    · have hw := hw.2 c8
      refine a_aload_3 (pc := 1809) C dL_law_1809 ?_
      refine a_iconst (pc := 1810) C dL_law_1810 ic_0 ?_
      obtain ⟨n9, f10, y1, y2, hw⟩ := hw
      refine l_laload (pc := 1811) C y1 y2 dL_law_1811 ?_
      refine a_iload_6 (pc := 1812) C dL_law_1812 ?_
      refine a_i2l (pc := 1814) C dL_law_1814 ?_
      refine a_lcmp (pc := 1815) C dL_law_1815 ?_
      refine a_if_eq (pc := 1816) C 1821 dL_law_1816 (by decide) (fun c11 => ?_) (fun c11 => ?_)
      · have hw := hw.1 c11
        refine a_goto (pc := 1821) C 2827 dL_law_1821 (by decide) ?_
        exact a_weak (a_le_some (a_le_some (a_le_some (a_le_some (a_le_some (a_le_none (a_le_none (a_le_none (a_le_none a_le_nil))))))))) (hKx _ hw)
      · have hw := hw.2 c11
        refine a_iconst (pc := 1819) C dL_law_1819 ic_0 ?_
        exact False.elim hw
  · have hw := hw.2 c7
    refine a_iconst (pc := 1802) C dL_law_1802 ic_0 ?_
    exact False.elim hw
def wp_law_31 (G : aG) (xs : Nat → Int32) (L9 x out : Nat) (i : Int32) (s0 : LWS) (Kx : LWS → Prop) : Prop := (vp_in (i + 1) L9 ∧ (5000 ≤ s0.1.2.2.1 ∧ wp_X0_lotsIn x (xs (i + 1).toNatClampNeg) out (oXs s0.1 5000) (fun v2 σ1 => ∀ s1 : LWS, s1 = (oXs σ1 (s0.1.2.2.1 - 5000), s0.2) → (vp_in (i + 1) L9 ∧ wp_X6_lotsIn (xs (i + 1).toNatClampNeg) s1.2 (fun v4 μ1 => ∀ s3 : LWS, s3 = (s1.1, μ1) → wp_X6_thrown s3.2 (fun v6 μ1 => ∀ s5 : LWS, s5 = (s3.1, μ1) → (((v6 = v2) → (((¬ v2 = 0) → (Kx s5)) ∧ ((v2 = 0) → (∃ (n9 : Nat) (f10 : Nat → Int64), s5.1.1 out = some (.inl (1, n9, .inr (.inl f10))) ∧ vp_in 0 n9 ∧ ((((lg_cmp (f10 (0 : Int32).toNatClampNeg) (v4.toInt64)) = 0) → (Kx s5)) ∧ ((¬ (lg_cmp (f10 (0 : Int32).toNatClampNeg) (v4.toInt64)) = 0) → False)))))) ∧ ((¬ v6 = v2) → False)))))) (fun _ _ => False)))
set_option maxHeartbeats 4000000 in
theorem law_31 {G : aG} {p : Program} {l : Launch} {e : Env} {s : State} {m : MethodId} {args : Array Value} {below : List Frame} {meth : Method} {c : Code} {A : Nat → Prop} {rt : Option FieldType} {Q : State → Prop} {nm : String} {KL n0 u0 mo b L9 x out : Nat} {xs : Nat → Int32} (C : Cx G p l s m args meth c A (yL nm) cL_law 9 rt) (hs : s.heap.size = n0 ∧ slT s.heap = u0) (hX : va_X b L9 xs s s.heap) (hbA : ¬ A b) (i : Int32) (s0 : LWS) (Kx : LWS → Prop) (hKx : ∀ s1 : LWS, Kx s1 → AW G p l e (aRm 200 KL (10 * KL)) s m args below meth c A 9 Q (LW n0 u0 KL mo s1.1 s1.2) 2827 [some (.ref b), some (.ref x), some (.ref mo), some (.ref out), some (.int i), none, none, none, none] []) (hw : wp_law_31 G xs L9 x out i s0 Kx) : AW G p l e (aRm 200 KL (10 * KL)) s m args below meth c A 9 Q (LW n0 u0 KL mo s0.1 s0.2) 1824 [some (.ref b), some (.ref x), some (.ref mo), some (.ref out), some (.int i), none, none, none, none] [] := by
  unfold wp_law_31 at hw
  refine a_aload_1 (pc := 1824) C dL_law_1824 ?_
  refine a_aload_0 (pc := 1825) C dL_law_1825 ?_
  refine a_iload_4 (pc := 1826) C dL_law_1826 ?_
  refine a_iconst (pc := 1828) C dL_law_1828 ic_1 ?_
  refine a_iadd (pc := 1829) C dL_law_1829 ?_
  refine a_xald (pc := 1830) C hX hbA hw.1 dL_law_1830 ?_
  have hw := hw.2
  refine a_aload_3 (pc := 1831) C dL_law_1831 ?_
  refine l_callSW (pc := 1832) C hs [.ref x, .int (xs (i + 1).toNatClampNeg), .ref out] (st := []) 5000 hw.1 (fun h n u hB => ct_X0_lotsIn l G _ _ _ (lE mo) _ _ _ hw.2 h n u hB) (by decide) (by decide) (lw_SW q1655 q1656 q64 q1657) sg_X0_lotsIn (Nat.le_of_ble_eq_true rfl) dL_law_1832 (fun v2 σ1 hw => l_top (fun s1 es1 => ?_))
  have hw := hw s1 es1
  refine a_istore_5 (pc := 1835) C dL_law_1835 (by decide) rfl ?_
  refine a_aload_2 (pc := 1837) C dL_law_1837 ?_
  refine a_aload_0 (pc := 1838) C dL_law_1838 ?_
  refine a_iload_4 (pc := 1839) C dL_law_1839 ?_
  refine a_iconst (pc := 1841) C dL_law_1841 ic_1 ?_
  refine a_iadd (pc := 1842) C dL_law_1842 ?_
  refine a_xald (pc := 1843) C hX hbA hw.1 dL_law_1843 ?_
  have hw := hw.2
  refine l_callMi (pc := 1844) C hs [.int (xs (i + 1).toNatClampNeg)] (st := []) (fun h n u hV => ct_X6_lotsIn l G _ _ _ _ hw h n u hV) (by decide) (by decide) rfl q77 q2077 q2078 q2079 (lw_meth q2080) sg_X6_lotsIn (Nat.le_of_ble_eq_true rfl) dL_law_1844 (fun v4 μ1 hw => l_top (fun s3 es3 => ?_))
  have hw := hw s3 es3
  refine a_istore_6 (pc := 1847) C dL_law_1847 (by decide) rfl ?_
  refine a_aload_2 (pc := 1849) C dL_law_1849 ?_
  refine l_callMi (pc := 1850) C hs [] (st := []) (fun h n u hV => ct_X6_thrown l G _ _ _ hw h n u hV) (by decide) (by decide) rfl q77 q1786 q1787 q1788 (lw_meth q1789) sg_X6_thrown (Nat.le_of_ble_eq_true rfl) dL_law_1850 (fun v6 μ1 hw => l_top (fun s5 es5 => ?_))
  have hw := hw s5 es5
  refine a_iload_5 (pc := 1853) C dL_law_1853 ?_
  refine a_icmp_eq (pc := 1855) C 1860 dL_law_1855 (by decide) (fun c7 => ?_) (fun c7 => ?_)
  · have hw := hw.1 c7
    refine a_iload_5 (pc := 1860) C dL_law_1860 ?_
    refine a_if_ne (pc := 1862) C 1877 dL_law_1862 (by decide) (fun c8 => ?_) (fun c8 => ?_)
    · have hw := hw.1 c8
      refine a_goto (pc := 1877) C 2827 dL_law_1877 (by decide) ?_
      exact a_weak (a_le_some (a_le_some (a_le_some (a_le_some (a_le_some (a_le_none (a_le_none (a_le_none (a_le_none a_le_nil))))))))) (hKx _ hw)
    · have hw := hw.2 c8
      refine a_aload_3 (pc := 1865) C dL_law_1865 ?_
      refine a_iconst (pc := 1866) C dL_law_1866 ic_0 ?_
      obtain ⟨n9, f10, y1, y2, hw⟩ := hw
      refine l_laload (pc := 1867) C y1 y2 dL_law_1867 ?_
      refine a_iload_6 (pc := 1868) C dL_law_1868 ?_
      refine a_i2l (pc := 1870) C dL_law_1870 ?_
      refine a_lcmp (pc := 1871) C dL_law_1871 ?_
      refine a_if_eq (pc := 1872) C 1877 dL_law_1872 (by decide) (fun c11 => ?_) (fun c11 => ?_)
      · have hw := hw.1 c11
        refine a_goto (pc := 1877) C 2827 dL_law_1877 (by decide) ?_
        exact a_weak (a_le_some (a_le_some (a_le_some (a_le_some (a_le_some (a_le_none (a_le_none (a_le_none (a_le_none a_le_nil))))))))) (hKx _ hw)
      · have hw := hw.2 c11
        refine a_iconst (pc := 1875) C dL_law_1875 ic_0 ?_
        exact False.elim hw
  · have hw := hw.2 c7
    refine a_iconst (pc := 1858) C dL_law_1858 ic_0 ?_
    exact False.elim hw
def wp_law_32 (G : aG) (xs : Nat → Int32) (L9 x out : Nat) (i : Int32) (s0 : LWS) (Kx : LWS → Prop) : Prop := (vp_in (i + 1) L9 ∧ (5000 ≤ s0.1.2.2.1 ∧ wp_X0_ripest x (xs (i + 1).toNatClampNeg) out (oXs s0.1 5000) (fun v2 σ1 => ∀ s1 : LWS, s1 = (oXs σ1 (s0.1.2.2.1 - 5000), s0.2) → (vp_in (i + 1) L9 ∧ wp_X6_ripest (xs (i + 1).toNatClampNeg) s1.2 (fun v4 μ1 => ∀ s3 : LWS, s3 = (s1.1, μ1) → wp_X6_thrown s3.2 (fun v6 μ1 => ∀ s5 : LWS, s5 = (s3.1, μ1) → (((v6 = v2) → (((¬ v2 = 0) → (Kx s5)) ∧ ((v2 = 0) → (∃ (n9 : Nat) (f10 : Nat → Int64), s5.1.1 out = some (.inl (1, n9, .inr (.inl f10))) ∧ vp_in 0 n9 ∧ ((((lg_cmp (f10 (0 : Int32).toNatClampNeg) (v4.toInt64)) = 0) → (Kx s5)) ∧ ((¬ (lg_cmp (f10 (0 : Int32).toNatClampNeg) (v4.toInt64)) = 0) → False)))))) ∧ ((¬ v6 = v2) → False)))))) (fun _ _ => False)))
set_option maxHeartbeats 4000000 in
theorem law_32 {G : aG} {p : Program} {l : Launch} {e : Env} {s : State} {m : MethodId} {args : Array Value} {below : List Frame} {meth : Method} {c : Code} {A : Nat → Prop} {rt : Option FieldType} {Q : State → Prop} {nm : String} {KL n0 u0 mo b L9 x out : Nat} {xs : Nat → Int32} (C : Cx G p l s m args meth c A (yL nm) cL_law 9 rt) (hs : s.heap.size = n0 ∧ slT s.heap = u0) (hX : va_X b L9 xs s s.heap) (hbA : ¬ A b) (i : Int32) (s0 : LWS) (Kx : LWS → Prop) (hKx : ∀ s1 : LWS, Kx s1 → AW G p l e (aRm 200 KL (10 * KL)) s m args below meth c A 9 Q (LW n0 u0 KL mo s1.1 s1.2) 2827 [some (.ref b), some (.ref x), some (.ref mo), some (.ref out), some (.int i), none, none, none, none] []) (hw : wp_law_32 G xs L9 x out i s0 Kx) : AW G p l e (aRm 200 KL (10 * KL)) s m args below meth c A 9 Q (LW n0 u0 KL mo s0.1 s0.2) 1880 [some (.ref b), some (.ref x), some (.ref mo), some (.ref out), some (.int i), none, none, none, none] [] := by
  unfold wp_law_32 at hw
  refine a_aload_1 (pc := 1880) C dL_law_1880 ?_
  refine a_aload_0 (pc := 1881) C dL_law_1881 ?_
  refine a_iload_4 (pc := 1882) C dL_law_1882 ?_
  refine a_iconst (pc := 1884) C dL_law_1884 ic_1 ?_
  refine a_iadd (pc := 1885) C dL_law_1885 ?_
  refine a_xald (pc := 1886) C hX hbA hw.1 dL_law_1886 ?_
  have hw := hw.2
  refine a_aload_3 (pc := 1887) C dL_law_1887 ?_
  refine l_callSW (pc := 1888) C hs [.ref x, .int (xs (i + 1).toNatClampNeg), .ref out] (st := []) 5000 hw.1 (fun h n u hB => ct_X0_ripest l G _ _ _ (lE mo) _ _ _ hw.2 h n u hB) (by decide) (by decide) (lw_SW q1662 q1663 q64 q1664) sg_X0_ripest (Nat.le_of_ble_eq_true rfl) dL_law_1888 (fun v2 σ1 hw => l_top (fun s1 es1 => ?_))
  have hw := hw s1 es1
  refine a_istore_5 (pc := 1891) C dL_law_1891 (by decide) rfl ?_
  refine a_aload_2 (pc := 1893) C dL_law_1893 ?_
  refine a_aload_0 (pc := 1894) C dL_law_1894 ?_
  refine a_iload_4 (pc := 1895) C dL_law_1895 ?_
  refine a_iconst (pc := 1897) C dL_law_1897 ic_1 ?_
  refine a_iadd (pc := 1898) C dL_law_1898 ?_
  refine a_xald (pc := 1899) C hX hbA hw.1 dL_law_1899 ?_
  have hw := hw.2
  refine l_callMi (pc := 1900) C hs [.int (xs (i + 1).toNatClampNeg)] (st := []) (fun h n u hV => ct_X6_ripest l G _ _ _ _ hw h n u hV) (by decide) (by decide) rfl q77 q2081 q2082 q2083 (lw_meth q2084) sg_X6_ripest (Nat.le_of_ble_eq_true rfl) dL_law_1900 (fun v4 μ1 hw => l_top (fun s3 es3 => ?_))
  have hw := hw s3 es3
  refine a_istore_6 (pc := 1903) C dL_law_1903 (by decide) rfl ?_
  refine a_aload_2 (pc := 1905) C dL_law_1905 ?_
  refine l_callMi (pc := 1906) C hs [] (st := []) (fun h n u hV => ct_X6_thrown l G _ _ _ hw h n u hV) (by decide) (by decide) rfl q77 q1786 q1787 q1788 (lw_meth q1789) sg_X6_thrown (Nat.le_of_ble_eq_true rfl) dL_law_1906 (fun v6 μ1 hw => l_top (fun s5 es5 => ?_))
  have hw := hw s5 es5
  refine a_iload_5 (pc := 1909) C dL_law_1909 ?_
  refine a_icmp_eq (pc := 1911) C 1916 dL_law_1911 (by decide) (fun c7 => ?_) (fun c7 => ?_)
  · have hw := hw.1 c7
    refine a_iload_5 (pc := 1916) C dL_law_1916 ?_
    refine a_if_ne (pc := 1918) C 1933 dL_law_1918 (by decide) (fun c8 => ?_) (fun c8 => ?_)
    · have hw := hw.1 c8
      refine a_goto (pc := 1933) C 2827 dL_law_1933 (by decide) ?_
      exact a_weak (a_le_some (a_le_some (a_le_some (a_le_some (a_le_some (a_le_none (a_le_none (a_le_none (a_le_none a_le_nil))))))))) (hKx _ hw)
    · have hw := hw.2 c8
      refine a_aload_3 (pc := 1921) C dL_law_1921 ?_
      refine a_iconst (pc := 1922) C dL_law_1922 ic_0 ?_
      obtain ⟨n9, f10, y1, y2, hw⟩ := hw
      refine l_laload (pc := 1923) C y1 y2 dL_law_1923 ?_
      refine a_iload_6 (pc := 1924) C dL_law_1924 ?_
      refine a_i2l (pc := 1926) C dL_law_1926 ?_
      refine a_lcmp (pc := 1927) C dL_law_1927 ?_
      refine a_if_eq (pc := 1928) C 1933 dL_law_1928 (by decide) (fun c11 => ?_) (fun c11 => ?_)
      · have hw := hw.1 c11
        refine a_goto (pc := 1933) C 2827 dL_law_1933 (by decide) ?_
        exact a_weak (a_le_some (a_le_some (a_le_some (a_le_some (a_le_some (a_le_none (a_le_none (a_le_none (a_le_none a_le_nil))))))))) (hKx _ hw)
      · have hw := hw.2 c11
        refine a_iconst (pc := 1931) C dL_law_1931 ic_0 ?_
        exact False.elim hw
  · have hw := hw.2 c7
    refine a_iconst (pc := 1914) C dL_law_1914 ic_0 ?_
    exact False.elim hw
def wp_law_33 (G : aG) (xs : Nat → Int32) (L9 x out : Nat) (i : Int32) (s0 : LWS) (Kx : LWS → Prop) : Prop := (vp_in (i + 1) L9 ∧ (5000 ≤ s0.1.2.2.1 ∧ wp_X0_lotIn x (xs (i + 1).toNatClampNeg) out (oXs s0.1 5000) (fun v2 σ1 => ∀ s1 : LWS, s1 = (oXs σ1 (s0.1.2.2.1 - 5000), s0.2) → (vp_in (i + 1) L9 ∧ wp_X6_lotIn (xs (i + 1).toNatClampNeg) s1.2 (fun v4 μ1 => ∀ s3 : LWS, s3 = (s1.1, μ1) → wp_X6_thrown s3.2 (fun v6 μ1 => ∀ s5 : LWS, s5 = (s3.1, μ1) → (((v6 = v2) → (((¬ v2 = 0) → (Kx s5)) ∧ ((v2 = 0) → (∃ (n9 : Nat) (f10 : Nat → Int64), s5.1.1 out = some (.inl (1, n9, .inr (.inl f10))) ∧ vp_in 0 n9 ∧ ((((lg_cmp (f10 (0 : Int32).toNatClampNeg) (v4.toInt64)) = 0) → (Kx s5)) ∧ ((¬ (lg_cmp (f10 (0 : Int32).toNatClampNeg) (v4.toInt64)) = 0) → False)))))) ∧ ((¬ v6 = v2) → False)))))) (fun _ _ => False)))
set_option maxHeartbeats 4000000 in
theorem law_33 {G : aG} {p : Program} {l : Launch} {e : Env} {s : State} {m : MethodId} {args : Array Value} {below : List Frame} {meth : Method} {c : Code} {A : Nat → Prop} {rt : Option FieldType} {Q : State → Prop} {nm : String} {KL n0 u0 mo b L9 x out : Nat} {xs : Nat → Int32} (C : Cx G p l s m args meth c A (yL nm) cL_law 9 rt) (hs : s.heap.size = n0 ∧ slT s.heap = u0) (hX : va_X b L9 xs s s.heap) (hbA : ¬ A b) (i : Int32) (s0 : LWS) (Kx : LWS → Prop) (hKx : ∀ s1 : LWS, Kx s1 → AW G p l e (aRm 200 KL (10 * KL)) s m args below meth c A 9 Q (LW n0 u0 KL mo s1.1 s1.2) 2827 [some (.ref b), some (.ref x), some (.ref mo), some (.ref out), some (.int i), none, none, none, none] []) (hw : wp_law_33 G xs L9 x out i s0 Kx) : AW G p l e (aRm 200 KL (10 * KL)) s m args below meth c A 9 Q (LW n0 u0 KL mo s0.1 s0.2) 1936 [some (.ref b), some (.ref x), some (.ref mo), some (.ref out), some (.int i), none, none, none, none] [] := by
  unfold wp_law_33 at hw
  refine a_aload_1 (pc := 1936) C dL_law_1936 ?_
  refine a_aload_0 (pc := 1937) C dL_law_1937 ?_
  refine a_iload_4 (pc := 1938) C dL_law_1938 ?_
  refine a_iconst (pc := 1940) C dL_law_1940 ic_1 ?_
  refine a_iadd (pc := 1941) C dL_law_1941 ?_
  refine a_xald (pc := 1942) C hX hbA hw.1 dL_law_1942 ?_
  have hw := hw.2
  refine a_aload_3 (pc := 1943) C dL_law_1943 ?_
  refine l_callSW (pc := 1944) C hs [.ref x, .int (xs (i + 1).toNatClampNeg), .ref out] (st := []) 5000 hw.1 (fun h n u hB => ct_X0_lotIn l G _ _ _ (lE mo) _ _ _ hw.2 h n u hB) (by decide) (by decide) (lw_SW q1673 q1674 q64 q1675) sg_X0_lotIn (Nat.le_of_ble_eq_true rfl) dL_law_1944 (fun v2 σ1 hw => l_top (fun s1 es1 => ?_))
  have hw := hw s1 es1
  refine a_istore_5 (pc := 1947) C dL_law_1947 (by decide) rfl ?_
  refine a_aload_2 (pc := 1949) C dL_law_1949 ?_
  refine a_aload_0 (pc := 1950) C dL_law_1950 ?_
  refine a_iload_4 (pc := 1951) C dL_law_1951 ?_
  refine a_iconst (pc := 1953) C dL_law_1953 ic_1 ?_
  refine a_iadd (pc := 1954) C dL_law_1954 ?_
  refine a_xald (pc := 1955) C hX hbA hw.1 dL_law_1955 ?_
  have hw := hw.2
  refine l_callMi (pc := 1956) C hs [.int (xs (i + 1).toNatClampNeg)] (st := []) (fun h n u hV => ct_X6_lotIn l G _ _ _ _ hw h n u hV) (by decide) (by decide) rfl q77 q2089 q2090 q2091 (lw_meth q2092) sg_X6_lotIn (Nat.le_of_ble_eq_true rfl) dL_law_1956 (fun v4 μ1 hw => l_top (fun s3 es3 => ?_))
  have hw := hw s3 es3
  refine a_istore_6 (pc := 1959) C dL_law_1959 (by decide) rfl ?_
  refine a_aload_2 (pc := 1961) C dL_law_1961 ?_
  refine l_callMi (pc := 1962) C hs [] (st := []) (fun h n u hV => ct_X6_thrown l G _ _ _ hw h n u hV) (by decide) (by decide) rfl q77 q1786 q1787 q1788 (lw_meth q1789) sg_X6_thrown (Nat.le_of_ble_eq_true rfl) dL_law_1962 (fun v6 μ1 hw => l_top (fun s5 es5 => ?_))
  have hw := hw s5 es5
  refine a_iload_5 (pc := 1965) C dL_law_1965 ?_
  refine a_icmp_eq (pc := 1967) C 1972 dL_law_1967 (by decide) (fun c7 => ?_) (fun c7 => ?_)
  · have hw := hw.1 c7
    refine a_iload_5 (pc := 1972) C dL_law_1972 ?_
    refine a_if_ne (pc := 1974) C 1989 dL_law_1974 (by decide) (fun c8 => ?_) (fun c8 => ?_)
    · have hw := hw.1 c8
      refine a_goto (pc := 1989) C 2827 dL_law_1989 (by decide) ?_
      exact a_weak (a_le_some (a_le_some (a_le_some (a_le_some (a_le_some (a_le_none (a_le_none (a_le_none (a_le_none a_le_nil))))))))) (hKx _ hw)
    · have hw := hw.2 c8
      refine a_aload_3 (pc := 1977) C dL_law_1977 ?_
      refine a_iconst (pc := 1978) C dL_law_1978 ic_0 ?_
      obtain ⟨n9, f10, y1, y2, hw⟩ := hw
      refine l_laload (pc := 1979) C y1 y2 dL_law_1979 ?_
      refine a_iload_6 (pc := 1980) C dL_law_1980 ?_
      refine a_i2l (pc := 1982) C dL_law_1982 ?_
      refine a_lcmp (pc := 1983) C dL_law_1983 ?_
      refine a_if_eq (pc := 1984) C 1989 dL_law_1984 (by decide) (fun c11 => ?_) (fun c11 => ?_)
      · have hw := hw.1 c11
        refine a_goto (pc := 1989) C 2827 dL_law_1989 (by decide) ?_
        exact a_weak (a_le_some (a_le_some (a_le_some (a_le_some (a_le_some (a_le_none (a_le_none (a_le_none (a_le_none a_le_nil))))))))) (hKx _ hw)
      · have hw := hw.2 c11
        refine a_iconst (pc := 1987) C dL_law_1987 ic_0 ?_
        exact False.elim hw
  · have hw := hw.2 c7
    refine a_iconst (pc := 1970) C dL_law_1970 ic_0 ?_
    exact False.elim hw
def wp_law_34 (G : aG) (xs : Nat → Int32) (L9 x out : Nat) (i : Int32) (s0 : LWS) (Kx : LWS → Prop) : Prop := (vp_in (i + 1) L9 ∧ (5000 ≤ s0.1.2.2.1 ∧ wp_X0_settingsOf x (xs (i + 1).toNatClampNeg) out (oXs s0.1 5000) (fun v2 σ1 => ∀ s1 : LWS, s1 = (oXs σ1 (s0.1.2.2.1 - 5000), s0.2) → (vp_in (i + 1) L9 ∧ wp_X6_settingsOf (xs (i + 1).toNatClampNeg) s1.2 (fun v4 μ1 => ∀ s3 : LWS, s3 = (s1.1, μ1) → wp_X6_thrown s3.2 (fun v6 μ1 => ∀ s5 : LWS, s5 = (s3.1, μ1) → (((v6 = v2) → (((¬ v2 = 0) → (Kx s5)) ∧ ((v2 = 0) → (∃ (n9 : Nat) (f10 : Nat → Int64), s5.1.1 out = some (.inl (1, n9, .inr (.inl f10))) ∧ vp_in 0 n9 ∧ ((((lg_cmp (f10 (0 : Int32).toNatClampNeg) (v4.toInt64)) = 0) → (Kx s5)) ∧ ((¬ (lg_cmp (f10 (0 : Int32).toNatClampNeg) (v4.toInt64)) = 0) → False)))))) ∧ ((¬ v6 = v2) → False)))))) (fun _ _ => False)))
set_option maxHeartbeats 4000000 in
theorem law_34 {G : aG} {p : Program} {l : Launch} {e : Env} {s : State} {m : MethodId} {args : Array Value} {below : List Frame} {meth : Method} {c : Code} {A : Nat → Prop} {rt : Option FieldType} {Q : State → Prop} {nm : String} {KL n0 u0 mo b L9 x out : Nat} {xs : Nat → Int32} (C : Cx G p l s m args meth c A (yL nm) cL_law 9 rt) (hs : s.heap.size = n0 ∧ slT s.heap = u0) (hX : va_X b L9 xs s s.heap) (hbA : ¬ A b) (i : Int32) (s0 : LWS) (Kx : LWS → Prop) (hKx : ∀ s1 : LWS, Kx s1 → AW G p l e (aRm 200 KL (10 * KL)) s m args below meth c A 9 Q (LW n0 u0 KL mo s1.1 s1.2) 2827 [some (.ref b), some (.ref x), some (.ref mo), some (.ref out), some (.int i), none, none, none, none] []) (hw : wp_law_34 G xs L9 x out i s0 Kx) : AW G p l e (aRm 200 KL (10 * KL)) s m args below meth c A 9 Q (LW n0 u0 KL mo s0.1 s0.2) 1992 [some (.ref b), some (.ref x), some (.ref mo), some (.ref out), some (.int i), none, none, none, none] [] := by
  unfold wp_law_34 at hw
  refine a_aload_1 (pc := 1992) C dL_law_1992 ?_
  refine a_aload_0 (pc := 1993) C dL_law_1993 ?_
  refine a_iload_4 (pc := 1994) C dL_law_1994 ?_
  refine a_iconst (pc := 1996) C dL_law_1996 ic_1 ?_
  refine a_iadd (pc := 1997) C dL_law_1997 ?_
  refine a_xald (pc := 1998) C hX hbA hw.1 dL_law_1998 ?_
  have hw := hw.2
  refine a_aload_3 (pc := 1999) C dL_law_1999 ?_
  refine l_callSW (pc := 2000) C hs [.ref x, .int (xs (i + 1).toNatClampNeg), .ref out] (st := []) 5000 hw.1 (fun h n u hB => ct_X0_settingsOf l G _ _ _ (lE mo) _ _ _ hw.2 h n u hB) (by decide) (by decide) (lw_SW q1680 q1681 q64 q1682) sg_X0_settingsOf (Nat.le_of_ble_eq_true rfl) dL_law_2000 (fun v2 σ1 hw => l_top (fun s1 es1 => ?_))
  have hw := hw s1 es1
  refine a_istore_5 (pc := 2003) C dL_law_2003 (by decide) rfl ?_
  refine a_aload_2 (pc := 2005) C dL_law_2005 ?_
  refine a_aload_0 (pc := 2006) C dL_law_2006 ?_
  refine a_iload_4 (pc := 2007) C dL_law_2007 ?_
  refine a_iconst (pc := 2009) C dL_law_2009 ic_1 ?_
  refine a_iadd (pc := 2010) C dL_law_2010 ?_
  refine a_xald (pc := 2011) C hX hbA hw.1 dL_law_2011 ?_
  have hw := hw.2
  refine l_callMi (pc := 2012) C hs [.int (xs (i + 1).toNatClampNeg)] (st := []) (fun h n u hV => ct_X6_settingsOf l G _ _ _ _ hw h n u hV) (by decide) (by decide) rfl q77 q2093 q2094 q2095 (lw_meth q2096) sg_X6_settingsOf (Nat.le_of_ble_eq_true rfl) dL_law_2012 (fun v4 μ1 hw => l_top (fun s3 es3 => ?_))
  have hw := hw s3 es3
  refine a_istore_6 (pc := 2015) C dL_law_2015 (by decide) rfl ?_
  refine a_aload_2 (pc := 2017) C dL_law_2017 ?_
  refine l_callMi (pc := 2018) C hs [] (st := []) (fun h n u hV => ct_X6_thrown l G _ _ _ hw h n u hV) (by decide) (by decide) rfl q77 q1786 q1787 q1788 (lw_meth q1789) sg_X6_thrown (Nat.le_of_ble_eq_true rfl) dL_law_2018 (fun v6 μ1 hw => l_top (fun s5 es5 => ?_))
  have hw := hw s5 es5
  refine a_iload_5 (pc := 2021) C dL_law_2021 ?_
  refine a_icmp_eq (pc := 2023) C 2028 dL_law_2023 (by decide) (fun c7 => ?_) (fun c7 => ?_)
  · have hw := hw.1 c7
    refine a_iload_5 (pc := 2028) C dL_law_2028 ?_
    refine a_if_ne (pc := 2030) C 2045 dL_law_2030 (by decide) (fun c8 => ?_) (fun c8 => ?_)
    · have hw := hw.1 c8
      refine a_goto (pc := 2045) C 2827 dL_law_2045 (by decide) ?_
      exact a_weak (a_le_some (a_le_some (a_le_some (a_le_some (a_le_some (a_le_none (a_le_none (a_le_none (a_le_none a_le_nil))))))))) (hKx _ hw)
    · have hw := hw.2 c8
      refine a_aload_3 (pc := 2033) C dL_law_2033 ?_
      refine a_iconst (pc := 2034) C dL_law_2034 ic_0 ?_
      obtain ⟨n9, f10, y1, y2, hw⟩ := hw
      refine l_laload (pc := 2035) C y1 y2 dL_law_2035 ?_
      refine a_iload_6 (pc := 2036) C dL_law_2036 ?_
      refine a_i2l (pc := 2038) C dL_law_2038 ?_
      refine a_lcmp (pc := 2039) C dL_law_2039 ?_
      refine a_if_eq (pc := 2040) C 2045 dL_law_2040 (by decide) (fun c11 => ?_) (fun c11 => ?_)
      · have hw := hw.1 c11
        refine a_goto (pc := 2045) C 2827 dL_law_2045 (by decide) ?_
        exact a_weak (a_le_some (a_le_some (a_le_some (a_le_some (a_le_some (a_le_none (a_le_none (a_le_none (a_le_none a_le_nil))))))))) (hKx _ hw)
      · have hw := hw.2 c11
        refine a_iconst (pc := 2043) C dL_law_2043 ic_0 ?_
        exact False.elim hw
  · have hw := hw.2 c7
    refine a_iconst (pc := 2026) C dL_law_2026 ic_0 ?_
    exact False.elim hw
def wp_law_35 (G : aG) (xs : Nat → Int32) (L9 x out : Nat) (i : Int32) (s0 : LWS) (Kx : LWS → Prop) : Prop := (5000 ≤ s0.1.2.2.1 ∧ oC s0.1 x 0 ∧ wp_X1_isLit x (oXs s0.1 5000) (fun v2 σ1 => ∀ s1 : LWS, s1 = (oXs σ1 (s0.1.2.2.1 - 5000), s0.2) → wp_X6_isLit s1.2 (fun v4 μ1 => ∀ s3 : LWS, s3 = (s1.1, μ1) → (((v2 = v4) → (Kx s3)) ∧ ((¬ v2 = v4) → False)))))
set_option maxHeartbeats 4000000 in
theorem law_35 {G : aG} {p : Program} {l : Launch} {e : Env} {s : State} {m : MethodId} {args : Array Value} {below : List Frame} {meth : Method} {c : Code} {A : Nat → Prop} {rt : Option FieldType} {Q : State → Prop} {nm : String} {KL n0 u0 mo b L9 x out : Nat} {xs : Nat → Int32} (C : Cx G p l s m args meth c A (yL nm) cL_law 9 rt) (hs : s.heap.size = n0 ∧ slT s.heap = u0) (hX : va_X b L9 xs s s.heap) (hbA : ¬ A b) (i : Int32) (s0 : LWS) (Kx : LWS → Prop) (hKx : ∀ s1 : LWS, Kx s1 → AW G p l e (aRm 200 KL (10 * KL)) s m args below meth c A 9 Q (LW n0 u0 KL mo s1.1 s1.2) 2827 [some (.ref b), some (.ref x), some (.ref mo), some (.ref out), some (.int i), none, none, none, none] []) (hw : wp_law_35 G xs L9 x out i s0 Kx) : AW G p l e (aRm 200 KL (10 * KL)) s m args below meth c A 9 Q (LW n0 u0 KL mo s0.1 s0.2) 2048 [some (.ref b), some (.ref x), some (.ref mo), some (.ref out), some (.int i), none, none, none, none] [] := by
  unfold wp_law_35 at hw
  refine a_aload_1 (pc := 2048) C dL_law_2048 ?_
  refine l_callVi (pc := 2049) C hs [] (b := x) (ci := 0) (st := []) 5000 hw.1 (fun h n u hB => ct_X1_isLit l G x (lE mo) _ _ hw.2.2 h n u hB) (by decide) (by decide) rfl hw.2.1 q65 q981 q982 q983 (lw_meth q984) sg_X1_isLit (Nat.le_of_ble_eq_true rfl) dL_law_2049 (fun v2 σ1 hw => l_top (fun s1 es1 => ?_))
  have hw := hw s1 es1
  refine a_aload_2 (pc := 2052) C dL_law_2052 ?_
  refine l_callMi (pc := 2053) C hs [] (st := [.int v2]) (fun h n u hV => ct_X6_isLit l G _ _ _ hw h n u hV) (by decide) (by decide) rfl q77 q2097 q2098 q2099 (lw_meth q2100) sg_X6_isLit (Nat.le_of_ble_eq_true rfl) dL_law_2053 (fun v4 μ1 hw => l_top (fun s3 es3 => ?_))
  have hw := hw s3 es3
  refine a_icmp_eq (pc := 2056) C 2827 dL_law_2056 (by decide) (fun c5 => ?_) (fun c5 => ?_)
  · have hw := hw.1 c5
    exact a_weak (a_le_some (a_le_some (a_le_some (a_le_some (a_le_some (a_le_none (a_le_none (a_le_none (a_le_none a_le_nil))))))))) (hKx _ hw)
  · have hw := hw.2 c5
    refine a_iconst (pc := 2059) C dL_law_2059 ic_0 ?_
    exact False.elim hw
def wp_law_36 (G : aG) (xs : Nat → Int32) (L9 x out : Nat) (i : Int32) (s0 : LWS) (Kx : LWS → Prop) : Prop := (5000 ≤ s0.1.2.2.1 ∧ oC s0.1 x 0 ∧ wp_X1_litFor x (oXs s0.1 5000) (fun v2 σ1 => ∀ s1 : LWS, s1 = (oXs σ1 (s0.1.2.2.1 - 5000), s0.2) → wp_X6_litFor s1.2 (fun v4 μ1 => ∀ s3 : LWS, s3 = (s1.1, μ1) → (((v2 = v4) → (Kx s3)) ∧ ((¬ v2 = v4) → False)))))
set_option maxHeartbeats 4000000 in
theorem law_36 {G : aG} {p : Program} {l : Launch} {e : Env} {s : State} {m : MethodId} {args : Array Value} {below : List Frame} {meth : Method} {c : Code} {A : Nat → Prop} {rt : Option FieldType} {Q : State → Prop} {nm : String} {KL n0 u0 mo b L9 x out : Nat} {xs : Nat → Int32} (C : Cx G p l s m args meth c A (yL nm) cL_law 9 rt) (hs : s.heap.size = n0 ∧ slT s.heap = u0) (hX : va_X b L9 xs s s.heap) (hbA : ¬ A b) (i : Int32) (s0 : LWS) (Kx : LWS → Prop) (hKx : ∀ s1 : LWS, Kx s1 → AW G p l e (aRm 200 KL (10 * KL)) s m args below meth c A 9 Q (LW n0 u0 KL mo s1.1 s1.2) 2827 [some (.ref b), some (.ref x), some (.ref mo), some (.ref out), some (.int i), none, none, none, none] []) (hw : wp_law_36 G xs L9 x out i s0 Kx) : AW G p l e (aRm 200 KL (10 * KL)) s m args below meth c A 9 Q (LW n0 u0 KL mo s0.1 s0.2) 2061 [some (.ref b), some (.ref x), some (.ref mo), some (.ref out), some (.int i), none, none, none, none] [] := by
  unfold wp_law_36 at hw
  refine a_aload_1 (pc := 2061) C dL_law_2061 ?_
  refine l_callVi (pc := 2062) C hs [] (b := x) (ci := 0) (st := []) 5000 hw.1 (fun h n u hB => ct_X1_litFor l G x (lE mo) _ _ hw.2.2 h n u hB) (by decide) (by decide) rfl hw.2.1 q65 q985 q986 q987 (lw_meth q988) sg_X1_litFor (Nat.le_of_ble_eq_true rfl) dL_law_2062 (fun v2 σ1 hw => l_top (fun s1 es1 => ?_))
  have hw := hw s1 es1
  refine a_aload_2 (pc := 2065) C dL_law_2065 ?_
  refine l_callMi (pc := 2066) C hs [] (st := [.int v2]) (fun h n u hV => ct_X6_litFor l G _ _ _ hw h n u hV) (by decide) (by decide) rfl q77 q2101 q2102 q2103 (lw_meth q2104) sg_X6_litFor (Nat.le_of_ble_eq_true rfl) dL_law_2066 (fun v4 μ1 hw => l_top (fun s3 es3 => ?_))
  have hw := hw s3 es3
  refine a_icmp_eq (pc := 2069) C 2827 dL_law_2069 (by decide) (fun c5 => ?_) (fun c5 => ?_)
  · have hw := hw.1 c5
    exact a_weak (a_le_some (a_le_some (a_le_some (a_le_some (a_le_some (a_le_none (a_le_none (a_le_none (a_le_none a_le_nil))))))))) (hKx _ hw)
  · have hw := hw.2 c5
    refine a_iconst (pc := 2072) C dL_law_2072 ic_0 ?_
    exact False.elim hw
def wp_law_37 (G : aG) (xs : Nat → Int32) (L9 x out : Nat) (i : Int32) (s0 : LWS) (Kx : LWS → Prop) : Prop := (5000 ≤ s0.1.2.2.1 ∧ oC s0.1 x 0 ∧ wp_X1_charge x (oXs s0.1 5000) (fun v2 σ1 => ∀ s1 : LWS, s1 = (oXs σ1 (s0.1.2.2.1 - 5000), s0.2) → wp_X6_charge s1.2 (fun v4 μ1 => ∀ s3 : LWS, s3 = (s1.1, μ1) → (((v2 = v4) → (Kx s3)) ∧ ((¬ v2 = v4) → False)))))
set_option maxHeartbeats 4000000 in
theorem law_37 {G : aG} {p : Program} {l : Launch} {e : Env} {s : State} {m : MethodId} {args : Array Value} {below : List Frame} {meth : Method} {c : Code} {A : Nat → Prop} {rt : Option FieldType} {Q : State → Prop} {nm : String} {KL n0 u0 mo b L9 x out : Nat} {xs : Nat → Int32} (C : Cx G p l s m args meth c A (yL nm) cL_law 9 rt) (hs : s.heap.size = n0 ∧ slT s.heap = u0) (hX : va_X b L9 xs s s.heap) (hbA : ¬ A b) (i : Int32) (s0 : LWS) (Kx : LWS → Prop) (hKx : ∀ s1 : LWS, Kx s1 → AW G p l e (aRm 200 KL (10 * KL)) s m args below meth c A 9 Q (LW n0 u0 KL mo s1.1 s1.2) 2827 [some (.ref b), some (.ref x), some (.ref mo), some (.ref out), some (.int i), none, none, none, none] []) (hw : wp_law_37 G xs L9 x out i s0 Kx) : AW G p l e (aRm 200 KL (10 * KL)) s m args below meth c A 9 Q (LW n0 u0 KL mo s0.1 s0.2) 2074 [some (.ref b), some (.ref x), some (.ref mo), some (.ref out), some (.int i), none, none, none, none] [] := by
  unfold wp_law_37 at hw
  refine a_aload_1 (pc := 2074) C dL_law_2074 ?_
  refine l_callVi (pc := 2075) C hs [] (b := x) (ci := 0) (st := []) 5000 hw.1 (fun h n u hB => ct_X1_charge l G x (lE mo) _ _ hw.2.2 h n u hB) (by decide) (by decide) rfl hw.2.1 q65 q989 q990 q991 (lw_meth q992) sg_X1_charge (Nat.le_of_ble_eq_true rfl) dL_law_2075 (fun v2 σ1 hw => l_top (fun s1 es1 => ?_))
  have hw := hw s1 es1
  refine a_aload_2 (pc := 2078) C dL_law_2078 ?_
  refine l_callMi (pc := 2079) C hs [] (st := [.int v2]) (fun h n u hV => ct_X6_charge l G _ _ _ hw h n u hV) (by decide) (by decide) rfl q77 q2105 q2106 q2107 (lw_meth q2108) sg_X6_charge (Nat.le_of_ble_eq_true rfl) dL_law_2079 (fun v4 μ1 hw => l_top (fun s3 es3 => ?_))
  have hw := hw s3 es3
  refine a_icmp_eq (pc := 2082) C 2827 dL_law_2082 (by decide) (fun c5 => ?_) (fun c5 => ?_)
  · have hw := hw.1 c5
    exact a_weak (a_le_some (a_le_some (a_le_some (a_le_some (a_le_some (a_le_none (a_le_none (a_le_none (a_le_none a_le_nil))))))))) (hKx _ hw)
  · have hw := hw.2 c5
    refine a_iconst (pc := 2085) C dL_law_2085 ic_0 ?_
    exact False.elim hw
def wp_law_38 (G : aG) (xs : Nat → Int32) (L9 x out : Nat) (i : Int32) (s0 : LWS) (Kx : LWS → Prop) : Prop := (5000 ≤ s0.1.2.2.1 ∧ oC s0.1 x 0 ∧ wp_X1_spraysLeft x (oXs s0.1 5000) (fun v2 σ1 => ∀ s1 : LWS, s1 = (oXs σ1 (s0.1.2.2.1 - 5000), s0.2) → wp_X6_spraysLeft s1.2 (fun v4 μ1 => ∀ s3 : LWS, s3 = (s1.1, μ1) → (((v2 = v4) → (Kx s3)) ∧ ((¬ v2 = v4) → False)))))
set_option maxHeartbeats 4000000 in
theorem law_38 {G : aG} {p : Program} {l : Launch} {e : Env} {s : State} {m : MethodId} {args : Array Value} {below : List Frame} {meth : Method} {c : Code} {A : Nat → Prop} {rt : Option FieldType} {Q : State → Prop} {nm : String} {KL n0 u0 mo b L9 x out : Nat} {xs : Nat → Int32} (C : Cx G p l s m args meth c A (yL nm) cL_law 9 rt) (hs : s.heap.size = n0 ∧ slT s.heap = u0) (hX : va_X b L9 xs s s.heap) (hbA : ¬ A b) (i : Int32) (s0 : LWS) (Kx : LWS → Prop) (hKx : ∀ s1 : LWS, Kx s1 → AW G p l e (aRm 200 KL (10 * KL)) s m args below meth c A 9 Q (LW n0 u0 KL mo s1.1 s1.2) 2827 [some (.ref b), some (.ref x), some (.ref mo), some (.ref out), some (.int i), none, none, none, none] []) (hw : wp_law_38 G xs L9 x out i s0 Kx) : AW G p l e (aRm 200 KL (10 * KL)) s m args below meth c A 9 Q (LW n0 u0 KL mo s0.1 s0.2) 2087 [some (.ref b), some (.ref x), some (.ref mo), some (.ref out), some (.int i), none, none, none, none] [] := by
  unfold wp_law_38 at hw
  refine a_aload_1 (pc := 2087) C dL_law_2087 ?_
  refine l_callVi (pc := 2088) C hs [] (b := x) (ci := 0) (st := []) 5000 hw.1 (fun h n u hB => ct_X1_spraysLeft l G x (lE mo) _ _ hw.2.2 h n u hB) (by decide) (by decide) rfl hw.2.1 q65 q1001 q1002 q1003 (lw_meth q1004) sg_X1_spraysLeft (Nat.le_of_ble_eq_true rfl) dL_law_2088 (fun v2 σ1 hw => l_top (fun s1 es1 => ?_))
  have hw := hw s1 es1
  refine a_aload_2 (pc := 2091) C dL_law_2091 ?_
  refine l_callMi (pc := 2092) C hs [] (st := [.int v2]) (fun h n u hV => ct_X6_spraysLeft l G _ _ _ hw h n u hV) (by decide) (by decide) rfl q77 q2109 q2110 q2111 (lw_meth q2112) sg_X6_spraysLeft (Nat.le_of_ble_eq_true rfl) dL_law_2092 (fun v4 μ1 hw => l_top (fun s3 es3 => ?_))
  have hw := hw s3 es3
  refine a_icmp_eq (pc := 2095) C 2827 dL_law_2095 (by decide) (fun c5 => ?_) (fun c5 => ?_)
  · have hw := hw.1 c5
    exact a_weak (a_le_some (a_le_some (a_le_some (a_le_some (a_le_some (a_le_none (a_le_none (a_le_none (a_le_none a_le_nil))))))))) (hKx _ hw)
  · have hw := hw.2 c5
    refine a_iconst (pc := 2098) C dL_law_2098 ic_0 ?_
    exact False.elim hw
def wp_law_39 (G : aG) (xs : Nat → Int32) (L9 x out : Nat) (i : Int32) (s0 : LWS) (Kx : LWS → Prop) : Prop := (vp_in (i + 1) L9 ∧ (5000 ≤ s0.1.2.2.1 ∧ wp_X0_whyNotSteep x (xs (i + 1).toNatClampNeg) out (oXs s0.1 5000) (fun v2 σ1 => ∀ s1 : LWS, s1 = (oXs σ1 (s0.1.2.2.1 - 5000), s0.2) → (vp_in (i + 1) L9 ∧ wp_X6_whyNotSteep (xs (i + 1).toNatClampNeg) s1.2 (fun v4 μ1 => ∀ s3 : LWS, s3 = (s1.1, μ1) → wp_X6_thrown s3.2 (fun v6 μ1 => ∀ s5 : LWS, s5 = (s3.1, μ1) → (((v6 = v2) → (((¬ v2 = 0) → (Kx s5)) ∧ ((v2 = 0) → (∃ (n9 : Nat) (f10 : Nat → Int64), s5.1.1 out = some (.inl (1, n9, .inr (.inl f10))) ∧ vp_in 0 n9 ∧ ((((lg_cmp (f10 (0 : Int32).toNatClampNeg) (v4.toInt64)) = 0) → (Kx s5)) ∧ ((¬ (lg_cmp (f10 (0 : Int32).toNatClampNeg) (v4.toInt64)) = 0) → False)))))) ∧ ((¬ v6 = v2) → False)))))) (fun _ _ => False)))
set_option maxHeartbeats 4000000 in
theorem law_39 {G : aG} {p : Program} {l : Launch} {e : Env} {s : State} {m : MethodId} {args : Array Value} {below : List Frame} {meth : Method} {c : Code} {A : Nat → Prop} {rt : Option FieldType} {Q : State → Prop} {nm : String} {KL n0 u0 mo b L9 x out : Nat} {xs : Nat → Int32} (C : Cx G p l s m args meth c A (yL nm) cL_law 9 rt) (hs : s.heap.size = n0 ∧ slT s.heap = u0) (hX : va_X b L9 xs s s.heap) (hbA : ¬ A b) (i : Int32) (s0 : LWS) (Kx : LWS → Prop) (hKx : ∀ s1 : LWS, Kx s1 → AW G p l e (aRm 200 KL (10 * KL)) s m args below meth c A 9 Q (LW n0 u0 KL mo s1.1 s1.2) 2827 [some (.ref b), some (.ref x), some (.ref mo), some (.ref out), some (.int i), none, none, none, none] []) (hw : wp_law_39 G xs L9 x out i s0 Kx) : AW G p l e (aRm 200 KL (10 * KL)) s m args below meth c A 9 Q (LW n0 u0 KL mo s0.1 s0.2) 2100 [some (.ref b), some (.ref x), some (.ref mo), some (.ref out), some (.int i), none, none, none, none] [] := by
  unfold wp_law_39 at hw
  refine a_aload_1 (pc := 2100) C dL_law_2100 ?_
  refine a_aload_0 (pc := 2101) C dL_law_2101 ?_
  refine a_iload_4 (pc := 2102) C dL_law_2102 ?_
  refine a_iconst (pc := 2104) C dL_law_2104 ic_1 ?_
  refine a_iadd (pc := 2105) C dL_law_2105 ?_
  refine a_xald (pc := 2106) C hX hbA hw.1 dL_law_2106 ?_
  have hw := hw.2
  refine a_aload_3 (pc := 2107) C dL_law_2107 ?_
  refine l_callSW (pc := 2108) C hs [.ref x, .int (xs (i + 1).toNatClampNeg), .ref out] (st := []) 5000 hw.1 (fun h n u hB => ct_X0_whyNotSteep l G _ _ _ (lE mo) _ _ _ hw.2 h n u hB) (by decide) (by decide) (lw_SW q1687 q1688 q64 q1689) sg_X0_whyNotSteep (Nat.le_of_ble_eq_true rfl) dL_law_2108 (fun v2 σ1 hw => l_top (fun s1 es1 => ?_))
  have hw := hw s1 es1
  refine a_istore_5 (pc := 2111) C dL_law_2111 (by decide) rfl ?_
  refine a_aload_2 (pc := 2113) C dL_law_2113 ?_
  refine a_aload_0 (pc := 2114) C dL_law_2114 ?_
  refine a_iload_4 (pc := 2115) C dL_law_2115 ?_
  refine a_iconst (pc := 2117) C dL_law_2117 ic_1 ?_
  refine a_iadd (pc := 2118) C dL_law_2118 ?_
  refine a_xald (pc := 2119) C hX hbA hw.1 dL_law_2119 ?_
  have hw := hw.2
  refine l_callMi (pc := 2120) C hs [.int (xs (i + 1).toNatClampNeg)] (st := []) (fun h n u hV => ct_X6_whyNotSteep l G _ _ _ _ hw h n u hV) (by decide) (by decide) rfl q77 q2113 q2114 q2115 (lw_meth q2116) sg_X6_whyNotSteep (Nat.le_of_ble_eq_true rfl) dL_law_2120 (fun v4 μ1 hw => l_top (fun s3 es3 => ?_))
  have hw := hw s3 es3
  refine a_istore_6 (pc := 2123) C dL_law_2123 (by decide) rfl ?_
  refine a_aload_2 (pc := 2125) C dL_law_2125 ?_
  refine l_callMi (pc := 2126) C hs [] (st := []) (fun h n u hV => ct_X6_thrown l G _ _ _ hw h n u hV) (by decide) (by decide) rfl q77 q1786 q1787 q1788 (lw_meth q1789) sg_X6_thrown (Nat.le_of_ble_eq_true rfl) dL_law_2126 (fun v6 μ1 hw => l_top (fun s5 es5 => ?_))
  have hw := hw s5 es5
  refine a_iload_5 (pc := 2129) C dL_law_2129 ?_
  refine a_icmp_eq (pc := 2131) C 2136 dL_law_2131 (by decide) (fun c7 => ?_) (fun c7 => ?_)
  · have hw := hw.1 c7
    refine a_iload_5 (pc := 2136) C dL_law_2136 ?_
    refine a_if_ne (pc := 2138) C 2153 dL_law_2138 (by decide) (fun c8 => ?_) (fun c8 => ?_)
    · have hw := hw.1 c8
      refine a_goto (pc := 2153) C 2827 dL_law_2153 (by decide) ?_
      exact a_weak (a_le_some (a_le_some (a_le_some (a_le_some (a_le_some (a_le_none (a_le_none (a_le_none (a_le_none a_le_nil))))))))) (hKx _ hw)
    · have hw := hw.2 c8
      refine a_aload_3 (pc := 2141) C dL_law_2141 ?_
      refine a_iconst (pc := 2142) C dL_law_2142 ic_0 ?_
      obtain ⟨n9, f10, y1, y2, hw⟩ := hw
      refine l_laload (pc := 2143) C y1 y2 dL_law_2143 ?_
      refine a_iload_6 (pc := 2144) C dL_law_2144 ?_
      refine a_i2l (pc := 2146) C dL_law_2146 ?_
      refine a_lcmp (pc := 2147) C dL_law_2147 ?_
      refine a_if_eq (pc := 2148) C 2153 dL_law_2148 (by decide) (fun c11 => ?_) (fun c11 => ?_)
      · have hw := hw.1 c11
        refine a_goto (pc := 2153) C 2827 dL_law_2153 (by decide) ?_
        exact a_weak (a_le_some (a_le_some (a_le_some (a_le_some (a_le_some (a_le_none (a_le_none (a_le_none (a_le_none a_le_nil))))))))) (hKx _ hw)
      · have hw := hw.2 c11
        refine a_iconst (pc := 2151) C dL_law_2151 ic_0 ?_
        exact False.elim hw
  · have hw := hw.2 c7
    refine a_iconst (pc := 2134) C dL_law_2134 ic_0 ?_
    exact False.elim hw
def wp_law_40 (G : aG) (xs : Nat → Int32) (L9 x out : Nat) (i : Int32) (s0 : LWS) (Kx : LWS → Prop) : Prop := (vp_in (i + 1) L9 ∧ (vp_in (i + 2) L9 ∧ (5000 ≤ s0.1.2.2.1 ∧ wp_X0_whyNotDrum x (xs (i + 1).toNatClampNeg) (xs (i + 2).toNatClampNeg) out (oXs s0.1 5000) (fun v2 σ1 => ∀ s1 : LWS, s1 = (oXs σ1 (s0.1.2.2.1 - 5000), s0.2) → (vp_in (i + 1) L9 ∧ (vp_in (i + 2) L9 ∧ wp_X6_whyNotDrum (xs (i + 1).toNatClampNeg) (xs (i + 2).toNatClampNeg) s1.2 (fun v4 μ1 => ∀ s3 : LWS, s3 = (s1.1, μ1) → wp_X6_thrown s3.2 (fun v6 μ1 => ∀ s5 : LWS, s5 = (s3.1, μ1) → (((v6 = v2) → (((¬ v2 = 0) → (Kx s5)) ∧ ((v2 = 0) → (∃ (n9 : Nat) (f10 : Nat → Int64), s5.1.1 out = some (.inl (1, n9, .inr (.inl f10))) ∧ vp_in 0 n9 ∧ ((((lg_cmp (f10 (0 : Int32).toNatClampNeg) (v4.toInt64)) = 0) → (Kx s5)) ∧ ((¬ (lg_cmp (f10 (0 : Int32).toNatClampNeg) (v4.toInt64)) = 0) → False)))))) ∧ ((¬ v6 = v2) → False))))))) (fun _ _ => False))))
set_option maxHeartbeats 4000000 in
theorem law_40 {G : aG} {p : Program} {l : Launch} {e : Env} {s : State} {m : MethodId} {args : Array Value} {below : List Frame} {meth : Method} {c : Code} {A : Nat → Prop} {rt : Option FieldType} {Q : State → Prop} {nm : String} {KL n0 u0 mo b L9 x out : Nat} {xs : Nat → Int32} (C : Cx G p l s m args meth c A (yL nm) cL_law 9 rt) (hs : s.heap.size = n0 ∧ slT s.heap = u0) (hX : va_X b L9 xs s s.heap) (hbA : ¬ A b) (i : Int32) (s0 : LWS) (Kx : LWS → Prop) (hKx : ∀ s1 : LWS, Kx s1 → AW G p l e (aRm 200 KL (10 * KL)) s m args below meth c A 9 Q (LW n0 u0 KL mo s1.1 s1.2) 2827 [some (.ref b), some (.ref x), some (.ref mo), some (.ref out), some (.int i), none, none, none, none] []) (hw : wp_law_40 G xs L9 x out i s0 Kx) : AW G p l e (aRm 200 KL (10 * KL)) s m args below meth c A 9 Q (LW n0 u0 KL mo s0.1 s0.2) 2156 [some (.ref b), some (.ref x), some (.ref mo), some (.ref out), some (.int i), none, none, none, none] [] := by
  unfold wp_law_40 at hw
  refine a_aload_1 (pc := 2156) C dL_law_2156 ?_
  refine a_aload_0 (pc := 2157) C dL_law_2157 ?_
  refine a_iload_4 (pc := 2158) C dL_law_2158 ?_
  refine a_iconst (pc := 2160) C dL_law_2160 ic_1 ?_
  refine a_iadd (pc := 2161) C dL_law_2161 ?_
  refine a_xald (pc := 2162) C hX hbA hw.1 dL_law_2162 ?_
  have hw := hw.2
  refine a_aload_0 (pc := 2163) C dL_law_2163 ?_
  refine a_iload_4 (pc := 2164) C dL_law_2164 ?_
  refine a_iconst (pc := 2166) C dL_law_2166 ic_2 ?_
  refine a_iadd (pc := 2167) C dL_law_2167 ?_
  refine a_xald (pc := 2168) C hX hbA hw.1 dL_law_2168 ?_
  have hw := hw.2
  refine a_aload_3 (pc := 2169) C dL_law_2169 ?_
  refine l_callSW (pc := 2170) C hs [.ref x, .int (xs (i + 1).toNatClampNeg), .int (xs (i + 2).toNatClampNeg), .ref out] (st := []) 5000 hw.1 (fun h n u hB => ct_X0_whyNotDrum l G _ _ _ _ (lE mo) _ _ _ hw.2 h n u hB) (by decide) (by decide) (lw_SW q1694 q1695 q64 q1696) sg_X0_whyNotDrum (Nat.le_of_ble_eq_true rfl) dL_law_2170 (fun v2 σ1 hw => l_top (fun s1 es1 => ?_))
  have hw := hw s1 es1
  refine a_istore_5 (pc := 2173) C dL_law_2173 (by decide) rfl ?_
  refine a_aload_2 (pc := 2175) C dL_law_2175 ?_
  refine a_aload_0 (pc := 2176) C dL_law_2176 ?_
  refine a_iload_4 (pc := 2177) C dL_law_2177 ?_
  refine a_iconst (pc := 2179) C dL_law_2179 ic_1 ?_
  refine a_iadd (pc := 2180) C dL_law_2180 ?_
  refine a_xald (pc := 2181) C hX hbA hw.1 dL_law_2181 ?_
  have hw := hw.2
  refine a_aload_0 (pc := 2182) C dL_law_2182 ?_
  refine a_iload_4 (pc := 2183) C dL_law_2183 ?_
  refine a_iconst (pc := 2185) C dL_law_2185 ic_2 ?_
  refine a_iadd (pc := 2186) C dL_law_2186 ?_
  refine a_xald (pc := 2187) C hX hbA hw.1 dL_law_2187 ?_
  have hw := hw.2
  refine l_callMi (pc := 2188) C hs [.int (xs (i + 1).toNatClampNeg), .int (xs (i + 2).toNatClampNeg)] (st := []) (fun h n u hV => ct_X6_whyNotDrum l G _ _ _ _ _ hw h n u hV) (by decide) (by decide) rfl q77 q2117 q2118 q2119 (lw_meth q2120) sg_X6_whyNotDrum (Nat.le_of_ble_eq_true rfl) dL_law_2188 (fun v4 μ1 hw => l_top (fun s3 es3 => ?_))
  have hw := hw s3 es3
  refine a_istore_6 (pc := 2191) C dL_law_2191 (by decide) rfl ?_
  refine a_aload_2 (pc := 2193) C dL_law_2193 ?_
  refine l_callMi (pc := 2194) C hs [] (st := []) (fun h n u hV => ct_X6_thrown l G _ _ _ hw h n u hV) (by decide) (by decide) rfl q77 q1786 q1787 q1788 (lw_meth q1789) sg_X6_thrown (Nat.le_of_ble_eq_true rfl) dL_law_2194 (fun v6 μ1 hw => l_top (fun s5 es5 => ?_))
  have hw := hw s5 es5
  refine a_iload_5 (pc := 2197) C dL_law_2197 ?_
  refine a_icmp_eq (pc := 2199) C 2204 dL_law_2199 (by decide) (fun c7 => ?_) (fun c7 => ?_)
  · have hw := hw.1 c7
    refine a_iload_5 (pc := 2204) C dL_law_2204 ?_
    refine a_if_ne (pc := 2206) C 2221 dL_law_2206 (by decide) (fun c8 => ?_) (fun c8 => ?_)
    · have hw := hw.1 c8
      refine a_goto (pc := 2221) C 2827 dL_law_2221 (by decide) ?_
      exact a_weak (a_le_some (a_le_some (a_le_some (a_le_some (a_le_some (a_le_none (a_le_none (a_le_none (a_le_none a_le_nil))))))))) (hKx _ hw)
    · have hw := hw.2 c8
      refine a_aload_3 (pc := 2209) C dL_law_2209 ?_
      refine a_iconst (pc := 2210) C dL_law_2210 ic_0 ?_
      obtain ⟨n9, f10, y1, y2, hw⟩ := hw
      refine l_laload (pc := 2211) C y1 y2 dL_law_2211 ?_
      refine a_iload_6 (pc := 2212) C dL_law_2212 ?_
      refine a_i2l (pc := 2214) C dL_law_2214 ?_
      refine a_lcmp (pc := 2215) C dL_law_2215 ?_
      refine a_if_eq (pc := 2216) C 2221 dL_law_2216 (by decide) (fun c11 => ?_) (fun c11 => ?_)
      · have hw := hw.1 c11
        refine a_goto (pc := 2221) C 2827 dL_law_2221 (by decide) ?_
        exact a_weak (a_le_some (a_le_some (a_le_some (a_le_some (a_le_some (a_le_none (a_le_none (a_le_none (a_le_none a_le_nil))))))))) (hKx _ hw)
      · have hw := hw.2 c11
        refine a_iconst (pc := 2219) C dL_law_2219 ic_0 ?_
        exact False.elim hw
  · have hw := hw.2 c7
    refine a_iconst (pc := 2202) C dL_law_2202 ic_0 ?_
    exact False.elim hw
def wp_law_41 (G : aG) (xs : Nat → Int32) (L9 x out : Nat) (i : Int32) (s0 : LWS) (Kx : LWS → Prop) : Prop := (vp_in (i + 1) L9 ∧ (5000 ≤ s0.1.2.2.1 ∧ wp_X0_whyNotLoad x (xs (i + 1).toNatClampNeg) out (oXs s0.1 5000) (fun v2 σ1 => ∀ s1 : LWS, s1 = (oXs σ1 (s0.1.2.2.1 - 5000), s0.2) → (vp_in (i + 1) L9 ∧ wp_X6_whyNotLoad (xs (i + 1).toNatClampNeg) s1.2 (fun v4 μ1 => ∀ s3 : LWS, s3 = (s1.1, μ1) → wp_X6_thrown s3.2 (fun v6 μ1 => ∀ s5 : LWS, s5 = (s3.1, μ1) → (((v6 = v2) → (((¬ v2 = 0) → (Kx s5)) ∧ ((v2 = 0) → (∃ (n9 : Nat) (f10 : Nat → Int64), s5.1.1 out = some (.inl (1, n9, .inr (.inl f10))) ∧ vp_in 0 n9 ∧ ((((lg_cmp (f10 (0 : Int32).toNatClampNeg) (v4.toInt64)) = 0) → (Kx s5)) ∧ ((¬ (lg_cmp (f10 (0 : Int32).toNatClampNeg) (v4.toInt64)) = 0) → False)))))) ∧ ((¬ v6 = v2) → False)))))) (fun _ _ => False)))
set_option maxHeartbeats 4000000 in
theorem law_41 {G : aG} {p : Program} {l : Launch} {e : Env} {s : State} {m : MethodId} {args : Array Value} {below : List Frame} {meth : Method} {c : Code} {A : Nat → Prop} {rt : Option FieldType} {Q : State → Prop} {nm : String} {KL n0 u0 mo b L9 x out : Nat} {xs : Nat → Int32} (C : Cx G p l s m args meth c A (yL nm) cL_law 9 rt) (hs : s.heap.size = n0 ∧ slT s.heap = u0) (hX : va_X b L9 xs s s.heap) (hbA : ¬ A b) (i : Int32) (s0 : LWS) (Kx : LWS → Prop) (hKx : ∀ s1 : LWS, Kx s1 → AW G p l e (aRm 200 KL (10 * KL)) s m args below meth c A 9 Q (LW n0 u0 KL mo s1.1 s1.2) 2827 [some (.ref b), some (.ref x), some (.ref mo), some (.ref out), some (.int i), none, none, none, none] []) (hw : wp_law_41 G xs L9 x out i s0 Kx) : AW G p l e (aRm 200 KL (10 * KL)) s m args below meth c A 9 Q (LW n0 u0 KL mo s0.1 s0.2) 2224 [some (.ref b), some (.ref x), some (.ref mo), some (.ref out), some (.int i), none, none, none, none] [] := by
  unfold wp_law_41 at hw
  refine a_aload_1 (pc := 2224) C dL_law_2224 ?_
  refine a_aload_0 (pc := 2225) C dL_law_2225 ?_
  refine a_iload_4 (pc := 2226) C dL_law_2226 ?_
  refine a_iconst (pc := 2228) C dL_law_2228 ic_1 ?_
  refine a_iadd (pc := 2229) C dL_law_2229 ?_
  refine a_xald (pc := 2230) C hX hbA hw.1 dL_law_2230 ?_
  have hw := hw.2
  refine a_aload_3 (pc := 2231) C dL_law_2231 ?_
  refine l_callSW (pc := 2232) C hs [.ref x, .int (xs (i + 1).toNatClampNeg), .ref out] (st := []) 5000 hw.1 (fun h n u hB => ct_X0_whyNotLoad l G _ _ _ (lE mo) _ _ _ hw.2 h n u hB) (by decide) (by decide) (lw_SW q1701 q1702 q64 q1703) sg_X0_whyNotLoad (Nat.le_of_ble_eq_true rfl) dL_law_2232 (fun v2 σ1 hw => l_top (fun s1 es1 => ?_))
  have hw := hw s1 es1
  refine a_istore_5 (pc := 2235) C dL_law_2235 (by decide) rfl ?_
  refine a_aload_2 (pc := 2237) C dL_law_2237 ?_
  refine a_aload_0 (pc := 2238) C dL_law_2238 ?_
  refine a_iload_4 (pc := 2239) C dL_law_2239 ?_
  refine a_iconst (pc := 2241) C dL_law_2241 ic_1 ?_
  refine a_iadd (pc := 2242) C dL_law_2242 ?_
  refine a_xald (pc := 2243) C hX hbA hw.1 dL_law_2243 ?_
  have hw := hw.2
  refine l_callMi (pc := 2244) C hs [.int (xs (i + 1).toNatClampNeg)] (st := []) (fun h n u hV => ct_X6_whyNotLoad l G _ _ _ _ hw h n u hV) (by decide) (by decide) rfl q77 q2121 q2122 q2123 (lw_meth q2124) sg_X6_whyNotLoad (Nat.le_of_ble_eq_true rfl) dL_law_2244 (fun v4 μ1 hw => l_top (fun s3 es3 => ?_))
  have hw := hw s3 es3
  refine a_istore_6 (pc := 2247) C dL_law_2247 (by decide) rfl ?_
  refine a_aload_2 (pc := 2249) C dL_law_2249 ?_
  refine l_callMi (pc := 2250) C hs [] (st := []) (fun h n u hV => ct_X6_thrown l G _ _ _ hw h n u hV) (by decide) (by decide) rfl q77 q1786 q1787 q1788 (lw_meth q1789) sg_X6_thrown (Nat.le_of_ble_eq_true rfl) dL_law_2250 (fun v6 μ1 hw => l_top (fun s5 es5 => ?_))
  have hw := hw s5 es5
  refine a_iload_5 (pc := 2253) C dL_law_2253 ?_
  refine a_icmp_eq (pc := 2255) C 2260 dL_law_2255 (by decide) (fun c7 => ?_) (fun c7 => ?_)
  · have hw := hw.1 c7
    refine a_iload_5 (pc := 2260) C dL_law_2260 ?_
    refine a_if_ne (pc := 2262) C 2277 dL_law_2262 (by decide) (fun c8 => ?_) (fun c8 => ?_)
    · have hw := hw.1 c8
      refine a_goto (pc := 2277) C 2827 dL_law_2277 (by decide) ?_
      exact a_weak (a_le_some (a_le_some (a_le_some (a_le_some (a_le_some (a_le_none (a_le_none (a_le_none (a_le_none a_le_nil))))))))) (hKx _ hw)
    · have hw := hw.2 c8
      refine a_aload_3 (pc := 2265) C dL_law_2265 ?_
      refine a_iconst (pc := 2266) C dL_law_2266 ic_0 ?_
      obtain ⟨n9, f10, y1, y2, hw⟩ := hw
      refine l_laload (pc := 2267) C y1 y2 dL_law_2267 ?_
      refine a_iload_6 (pc := 2268) C dL_law_2268 ?_
      refine a_i2l (pc := 2270) C dL_law_2270 ?_
      refine a_lcmp (pc := 2271) C dL_law_2271 ?_
      refine a_if_eq (pc := 2272) C 2277 dL_law_2272 (by decide) (fun c11 => ?_) (fun c11 => ?_)
      · have hw := hw.1 c11
        refine a_goto (pc := 2277) C 2827 dL_law_2277 (by decide) ?_
        exact a_weak (a_le_some (a_le_some (a_le_some (a_le_some (a_le_some (a_le_none (a_le_none (a_le_none (a_le_none a_le_nil))))))))) (hKx _ hw)
      · have hw := hw.2 c11
        refine a_iconst (pc := 2275) C dL_law_2275 ic_0 ?_
        exact False.elim hw
  · have hw := hw.2 c7
    refine a_iconst (pc := 2258) C dL_law_2258 ic_0 ?_
    exact False.elim hw
def wp_law_42 (G : aG) (xs : Nat → Int32) (L9 x out : Nat) (i : Int32) (s0 : LWS) (Kx : LWS → Prop) : Prop := (vp_in (i + 1) L9 ∧ (5000 ≤ s0.1.2.2.1 ∧ wp_X0_whyNotSpray x (xs (i + 1).toNatClampNeg) out (oXs s0.1 5000) (fun v2 σ1 => ∀ s1 : LWS, s1 = (oXs σ1 (s0.1.2.2.1 - 5000), s0.2) → (vp_in (i + 1) L9 ∧ wp_X6_whyNotSpray (xs (i + 1).toNatClampNeg) s1.2 (fun v4 μ1 => ∀ s3 : LWS, s3 = (s1.1, μ1) → wp_X6_thrown s3.2 (fun v6 μ1 => ∀ s5 : LWS, s5 = (s3.1, μ1) → (((v6 = v2) → (((¬ v2 = 0) → (Kx s5)) ∧ ((v2 = 0) → (∃ (n9 : Nat) (f10 : Nat → Int64), s5.1.1 out = some (.inl (1, n9, .inr (.inl f10))) ∧ vp_in 0 n9 ∧ ((((lg_cmp (f10 (0 : Int32).toNatClampNeg) (v4.toInt64)) = 0) → (Kx s5)) ∧ ((¬ (lg_cmp (f10 (0 : Int32).toNatClampNeg) (v4.toInt64)) = 0) → False)))))) ∧ ((¬ v6 = v2) → False)))))) (fun _ _ => False)))
set_option maxHeartbeats 4000000 in
theorem law_42 {G : aG} {p : Program} {l : Launch} {e : Env} {s : State} {m : MethodId} {args : Array Value} {below : List Frame} {meth : Method} {c : Code} {A : Nat → Prop} {rt : Option FieldType} {Q : State → Prop} {nm : String} {KL n0 u0 mo b L9 x out : Nat} {xs : Nat → Int32} (C : Cx G p l s m args meth c A (yL nm) cL_law 9 rt) (hs : s.heap.size = n0 ∧ slT s.heap = u0) (hX : va_X b L9 xs s s.heap) (hbA : ¬ A b) (i : Int32) (s0 : LWS) (Kx : LWS → Prop) (hKx : ∀ s1 : LWS, Kx s1 → AW G p l e (aRm 200 KL (10 * KL)) s m args below meth c A 9 Q (LW n0 u0 KL mo s1.1 s1.2) 2827 [some (.ref b), some (.ref x), some (.ref mo), some (.ref out), some (.int i), none, none, none, none] []) (hw : wp_law_42 G xs L9 x out i s0 Kx) : AW G p l e (aRm 200 KL (10 * KL)) s m args below meth c A 9 Q (LW n0 u0 KL mo s0.1 s0.2) 2280 [some (.ref b), some (.ref x), some (.ref mo), some (.ref out), some (.int i), none, none, none, none] [] := by
  unfold wp_law_42 at hw
  refine a_aload_1 (pc := 2280) C dL_law_2280 ?_
  refine a_aload_0 (pc := 2281) C dL_law_2281 ?_
  refine a_iload_4 (pc := 2282) C dL_law_2282 ?_
  refine a_iconst (pc := 2284) C dL_law_2284 ic_1 ?_
  refine a_iadd (pc := 2285) C dL_law_2285 ?_
  refine a_xald (pc := 2286) C hX hbA hw.1 dL_law_2286 ?_
  have hw := hw.2
  refine a_aload_3 (pc := 2287) C dL_law_2287 ?_
  refine l_callSW (pc := 2288) C hs [.ref x, .int (xs (i + 1).toNatClampNeg), .ref out] (st := []) 5000 hw.1 (fun h n u hB => ct_X0_whyNotSpray l G _ _ _ (lE mo) _ _ _ hw.2 h n u hB) (by decide) (by decide) (lw_SW q1708 q1709 q64 q1710) sg_X0_whyNotSpray (Nat.le_of_ble_eq_true rfl) dL_law_2288 (fun v2 σ1 hw => l_top (fun s1 es1 => ?_))
  have hw := hw s1 es1
  refine a_istore_5 (pc := 2291) C dL_law_2291 (by decide) rfl ?_
  refine a_aload_2 (pc := 2293) C dL_law_2293 ?_
  refine a_aload_0 (pc := 2294) C dL_law_2294 ?_
  refine a_iload_4 (pc := 2295) C dL_law_2295 ?_
  refine a_iconst (pc := 2297) C dL_law_2297 ic_1 ?_
  refine a_iadd (pc := 2298) C dL_law_2298 ?_
  refine a_xald (pc := 2299) C hX hbA hw.1 dL_law_2299 ?_
  have hw := hw.2
  refine l_callMi (pc := 2300) C hs [.int (xs (i + 1).toNatClampNeg)] (st := []) (fun h n u hV => ct_X6_whyNotSpray l G _ _ _ _ hw h n u hV) (by decide) (by decide) rfl q77 q2125 q2126 q2127 (lw_meth q2128) sg_X6_whyNotSpray (Nat.le_of_ble_eq_true rfl) dL_law_2300 (fun v4 μ1 hw => l_top (fun s3 es3 => ?_))
  have hw := hw s3 es3
  refine a_istore_6 (pc := 2303) C dL_law_2303 (by decide) rfl ?_
  refine a_aload_2 (pc := 2305) C dL_law_2305 ?_
  refine l_callMi (pc := 2306) C hs [] (st := []) (fun h n u hV => ct_X6_thrown l G _ _ _ hw h n u hV) (by decide) (by decide) rfl q77 q1786 q1787 q1788 (lw_meth q1789) sg_X6_thrown (Nat.le_of_ble_eq_true rfl) dL_law_2306 (fun v6 μ1 hw => l_top (fun s5 es5 => ?_))
  have hw := hw s5 es5
  refine a_iload_5 (pc := 2309) C dL_law_2309 ?_
  refine a_icmp_eq (pc := 2311) C 2316 dL_law_2311 (by decide) (fun c7 => ?_) (fun c7 => ?_)
  · have hw := hw.1 c7
    refine a_iload_5 (pc := 2316) C dL_law_2316 ?_
    refine a_if_ne (pc := 2318) C 2333 dL_law_2318 (by decide) (fun c8 => ?_) (fun c8 => ?_)
    · have hw := hw.1 c8
      refine a_goto (pc := 2333) C 2827 dL_law_2333 (by decide) ?_
      exact a_weak (a_le_some (a_le_some (a_le_some (a_le_some (a_le_some (a_le_none (a_le_none (a_le_none (a_le_none a_le_nil))))))))) (hKx _ hw)
    · have hw := hw.2 c8
      refine a_aload_3 (pc := 2321) C dL_law_2321 ?_
      refine a_iconst (pc := 2322) C dL_law_2322 ic_0 ?_
      obtain ⟨n9, f10, y1, y2, hw⟩ := hw
      refine l_laload (pc := 2323) C y1 y2 dL_law_2323 ?_
      refine a_iload_6 (pc := 2324) C dL_law_2324 ?_
      refine a_i2l (pc := 2326) C dL_law_2326 ?_
      refine a_lcmp (pc := 2327) C dL_law_2327 ?_
      refine a_if_eq (pc := 2328) C 2333 dL_law_2328 (by decide) (fun c11 => ?_) (fun c11 => ?_)
      · have hw := hw.1 c11
        refine a_goto (pc := 2333) C 2827 dL_law_2333 (by decide) ?_
        exact a_weak (a_le_some (a_le_some (a_le_some (a_le_some (a_le_some (a_le_none (a_le_none (a_le_none (a_le_none a_le_nil))))))))) (hKx _ hw)
      · have hw := hw.2 c11
        refine a_iconst (pc := 2331) C dL_law_2331 ic_0 ?_
        exact False.elim hw
  · have hw := hw.2 c7
    refine a_iconst (pc := 2314) C dL_law_2314 ic_0 ?_
    exact False.elim hw
def wp_law_43 (G : aG) (xs : Nat → Int32) (L9 x out : Nat) (i : Int32) (s0 : LWS) (Kx : LWS → Prop) : Prop := (vp_in (i + 1) L9 ∧ (vp_in (i + 2) L9 ∧ (5000 ≤ s0.1.2.2.1 ∧ wp_X0_hoursToGrow x (xs (i + 1).toNatClampNeg) (xs (i + 2).toNatClampNeg) out (oXs s0.1 5000) (fun v2 σ1 => ∀ s1 : LWS, s1 = (oXs σ1 (s0.1.2.2.1 - 5000), s0.2) → (vp_in (i + 1) L9 ∧ (vp_in (i + 2) L9 ∧ wp_X6_hoursToGrow (xs (i + 1).toNatClampNeg) (xs (i + 2).toNatClampNeg) s1.2 (fun v4 μ1 => ∀ s3 : LWS, s3 = (s1.1, μ1) → wp_X6_thrown s3.2 (fun v6 μ1 => ∀ s5 : LWS, s5 = (s3.1, μ1) → (((v6 = v2) → (((¬ v2 = 0) → (Kx s5)) ∧ ((v2 = 0) → (∃ (n9 : Nat) (f10 : Nat → Int64), s5.1.1 out = some (.inl (1, n9, .inr (.inl f10))) ∧ vp_in 0 n9 ∧ ((((lg_cmp (f10 (0 : Int32).toNatClampNeg) (v4.toInt64)) = 0) → (Kx s5)) ∧ ((¬ (lg_cmp (f10 (0 : Int32).toNatClampNeg) (v4.toInt64)) = 0) → False)))))) ∧ ((¬ v6 = v2) → False))))))) (fun _ _ => False))))
set_option maxHeartbeats 4000000 in
theorem law_43 {G : aG} {p : Program} {l : Launch} {e : Env} {s : State} {m : MethodId} {args : Array Value} {below : List Frame} {meth : Method} {c : Code} {A : Nat → Prop} {rt : Option FieldType} {Q : State → Prop} {nm : String} {KL n0 u0 mo b L9 x out : Nat} {xs : Nat → Int32} (C : Cx G p l s m args meth c A (yL nm) cL_law 9 rt) (hs : s.heap.size = n0 ∧ slT s.heap = u0) (hX : va_X b L9 xs s s.heap) (hbA : ¬ A b) (i : Int32) (s0 : LWS) (Kx : LWS → Prop) (hKx : ∀ s1 : LWS, Kx s1 → AW G p l e (aRm 200 KL (10 * KL)) s m args below meth c A 9 Q (LW n0 u0 KL mo s1.1 s1.2) 2827 [some (.ref b), some (.ref x), some (.ref mo), some (.ref out), some (.int i), none, none, none, none] []) (hw : wp_law_43 G xs L9 x out i s0 Kx) : AW G p l e (aRm 200 KL (10 * KL)) s m args below meth c A 9 Q (LW n0 u0 KL mo s0.1 s0.2) 2336 [some (.ref b), some (.ref x), some (.ref mo), some (.ref out), some (.int i), none, none, none, none] [] := by
  unfold wp_law_43 at hw
  refine a_aload_1 (pc := 2336) C dL_law_2336 ?_
  refine a_aload_0 (pc := 2337) C dL_law_2337 ?_
  refine a_iload_4 (pc := 2338) C dL_law_2338 ?_
  refine a_iconst (pc := 2340) C dL_law_2340 ic_1 ?_
  refine a_iadd (pc := 2341) C dL_law_2341 ?_
  refine a_xald (pc := 2342) C hX hbA hw.1 dL_law_2342 ?_
  have hw := hw.2
  refine a_aload_0 (pc := 2343) C dL_law_2343 ?_
  refine a_iload_4 (pc := 2344) C dL_law_2344 ?_
  refine a_iconst (pc := 2346) C dL_law_2346 ic_2 ?_
  refine a_iadd (pc := 2347) C dL_law_2347 ?_
  refine a_xald (pc := 2348) C hX hbA hw.1 dL_law_2348 ?_
  have hw := hw.2
  refine a_aload_3 (pc := 2349) C dL_law_2349 ?_
  refine l_callSW (pc := 2350) C hs [.ref x, .int (xs (i + 1).toNatClampNeg), .int (xs (i + 2).toNatClampNeg), .ref out] (st := []) 5000 hw.1 (fun h n u hB => ct_X0_hoursToGrow l G _ _ _ _ (lE mo) _ _ _ hw.2 h n u hB) (by decide) (by decide) (lw_SW q1715 q1716 q64 q1717) sg_X0_hoursToGrow (Nat.le_of_ble_eq_true rfl) dL_law_2350 (fun v2 σ1 hw => l_top (fun s1 es1 => ?_))
  have hw := hw s1 es1
  refine a_istore_5 (pc := 2353) C dL_law_2353 (by decide) rfl ?_
  refine a_aload_2 (pc := 2355) C dL_law_2355 ?_
  refine a_aload_0 (pc := 2356) C dL_law_2356 ?_
  refine a_iload_4 (pc := 2357) C dL_law_2357 ?_
  refine a_iconst (pc := 2359) C dL_law_2359 ic_1 ?_
  refine a_iadd (pc := 2360) C dL_law_2360 ?_
  refine a_xald (pc := 2361) C hX hbA hw.1 dL_law_2361 ?_
  have hw := hw.2
  refine a_aload_0 (pc := 2362) C dL_law_2362 ?_
  refine a_iload_4 (pc := 2363) C dL_law_2363 ?_
  refine a_iconst (pc := 2365) C dL_law_2365 ic_2 ?_
  refine a_iadd (pc := 2366) C dL_law_2366 ?_
  refine a_xald (pc := 2367) C hX hbA hw.1 dL_law_2367 ?_
  have hw := hw.2
  refine l_callMi (pc := 2368) C hs [.int (xs (i + 1).toNatClampNeg), .int (xs (i + 2).toNatClampNeg)] (st := []) (fun h n u hV => ct_X6_hoursToGrow l G _ _ _ _ _ hw h n u hV) (by decide) (by decide) rfl q77 q2129 q2130 q2131 (lw_meth q2132) sg_X6_hoursToGrow (Nat.le_of_ble_eq_true rfl) dL_law_2368 (fun v4 μ1 hw => l_top (fun s3 es3 => ?_))
  have hw := hw s3 es3
  refine a_istore_6 (pc := 2371) C dL_law_2371 (by decide) rfl ?_
  refine a_aload_2 (pc := 2373) C dL_law_2373 ?_
  refine l_callMi (pc := 2374) C hs [] (st := []) (fun h n u hV => ct_X6_thrown l G _ _ _ hw h n u hV) (by decide) (by decide) rfl q77 q1786 q1787 q1788 (lw_meth q1789) sg_X6_thrown (Nat.le_of_ble_eq_true rfl) dL_law_2374 (fun v6 μ1 hw => l_top (fun s5 es5 => ?_))
  have hw := hw s5 es5
  refine a_iload_5 (pc := 2377) C dL_law_2377 ?_
  refine a_icmp_eq (pc := 2379) C 2384 dL_law_2379 (by decide) (fun c7 => ?_) (fun c7 => ?_)
  · have hw := hw.1 c7
    refine a_iload_5 (pc := 2384) C dL_law_2384 ?_
    refine a_if_ne (pc := 2386) C 2401 dL_law_2386 (by decide) (fun c8 => ?_) (fun c8 => ?_)
    · have hw := hw.1 c8
      refine a_goto (pc := 2401) C 2827 dL_law_2401 (by decide) ?_
      exact a_weak (a_le_some (a_le_some (a_le_some (a_le_some (a_le_some (a_le_none (a_le_none (a_le_none (a_le_none a_le_nil))))))))) (hKx _ hw)
    · have hw := hw.2 c8
      refine a_aload_3 (pc := 2389) C dL_law_2389 ?_
      refine a_iconst (pc := 2390) C dL_law_2390 ic_0 ?_
      obtain ⟨n9, f10, y1, y2, hw⟩ := hw
      refine l_laload (pc := 2391) C y1 y2 dL_law_2391 ?_
      refine a_iload_6 (pc := 2392) C dL_law_2392 ?_
      refine a_i2l (pc := 2394) C dL_law_2394 ?_
      refine a_lcmp (pc := 2395) C dL_law_2395 ?_
      refine a_if_eq (pc := 2396) C 2401 dL_law_2396 (by decide) (fun c11 => ?_) (fun c11 => ?_)
      · have hw := hw.1 c11
        refine a_goto (pc := 2401) C 2827 dL_law_2401 (by decide) ?_
        exact a_weak (a_le_some (a_le_some (a_le_some (a_le_some (a_le_some (a_le_none (a_le_none (a_le_none (a_le_none a_le_nil))))))))) (hKx _ hw)
      · have hw := hw.2 c11
        refine a_iconst (pc := 2399) C dL_law_2399 ic_0 ?_
        exact False.elim hw
  · have hw := hw.2 c7
    refine a_iconst (pc := 2382) C dL_law_2382 ic_0 ?_
    exact False.elim hw
def wp_law_44 (G : aG) (xs : Nat → Int32) (L9 x out : Nat) (i : Int32) (s0 : LWS) (Kx : LWS → Prop) : Prop := (vp_in (i + 1) L9 ∧ (5000 ≤ s0.1.2.2.1 ∧ wp_X0_hoursToSpoil x (xs (i + 1).toNatClampNeg) out (oXs s0.1 5000) (fun v2 σ1 => ∀ s1 : LWS, s1 = (oXs σ1 (s0.1.2.2.1 - 5000), s0.2) → (vp_in (i + 1) L9 ∧ wp_X6_hoursToSpoil (xs (i + 1).toNatClampNeg) s1.2 (fun v4 μ1 => ∀ s3 : LWS, s3 = (s1.1, μ1) → wp_X6_thrown s3.2 (fun v6 μ1 => ∀ s5 : LWS, s5 = (s3.1, μ1) → (((v6 = v2) → (((¬ v2 = 0) → (Kx s5)) ∧ ((v2 = 0) → (∃ (n9 : Nat) (f10 : Nat → Int64), s5.1.1 out = some (.inl (1, n9, .inr (.inl f10))) ∧ vp_in 0 n9 ∧ ((((lg_cmp (f10 (0 : Int32).toNatClampNeg) (v4.toInt64)) = 0) → (Kx s5)) ∧ ((¬ (lg_cmp (f10 (0 : Int32).toNatClampNeg) (v4.toInt64)) = 0) → False)))))) ∧ ((¬ v6 = v2) → False)))))) (fun _ _ => False)))
set_option maxHeartbeats 4000000 in
theorem law_44 {G : aG} {p : Program} {l : Launch} {e : Env} {s : State} {m : MethodId} {args : Array Value} {below : List Frame} {meth : Method} {c : Code} {A : Nat → Prop} {rt : Option FieldType} {Q : State → Prop} {nm : String} {KL n0 u0 mo b L9 x out : Nat} {xs : Nat → Int32} (C : Cx G p l s m args meth c A (yL nm) cL_law 9 rt) (hs : s.heap.size = n0 ∧ slT s.heap = u0) (hX : va_X b L9 xs s s.heap) (hbA : ¬ A b) (i : Int32) (s0 : LWS) (Kx : LWS → Prop) (hKx : ∀ s1 : LWS, Kx s1 → AW G p l e (aRm 200 KL (10 * KL)) s m args below meth c A 9 Q (LW n0 u0 KL mo s1.1 s1.2) 2827 [some (.ref b), some (.ref x), some (.ref mo), some (.ref out), some (.int i), none, none, none, none] []) (hw : wp_law_44 G xs L9 x out i s0 Kx) : AW G p l e (aRm 200 KL (10 * KL)) s m args below meth c A 9 Q (LW n0 u0 KL mo s0.1 s0.2) 2404 [some (.ref b), some (.ref x), some (.ref mo), some (.ref out), some (.int i), none, none, none, none] [] := by
  unfold wp_law_44 at hw
  refine a_aload_1 (pc := 2404) C dL_law_2404 ?_
  refine a_aload_0 (pc := 2405) C dL_law_2405 ?_
  refine a_iload_4 (pc := 2406) C dL_law_2406 ?_
  refine a_iconst (pc := 2408) C dL_law_2408 ic_1 ?_
  refine a_iadd (pc := 2409) C dL_law_2409 ?_
  refine a_xald (pc := 2410) C hX hbA hw.1 dL_law_2410 ?_
  have hw := hw.2
  refine a_aload_3 (pc := 2411) C dL_law_2411 ?_
  refine l_callSW (pc := 2412) C hs [.ref x, .int (xs (i + 1).toNatClampNeg), .ref out] (st := []) 5000 hw.1 (fun h n u hB => ct_X0_hoursToSpoil l G _ _ _ (lE mo) _ _ _ hw.2 h n u hB) (by decide) (by decide) (lw_SW q1722 q1723 q64 q1724) sg_X0_hoursToSpoil (Nat.le_of_ble_eq_true rfl) dL_law_2412 (fun v2 σ1 hw => l_top (fun s1 es1 => ?_))
  have hw := hw s1 es1
  refine a_istore_5 (pc := 2415) C dL_law_2415 (by decide) rfl ?_
  refine a_aload_2 (pc := 2417) C dL_law_2417 ?_
  refine a_aload_0 (pc := 2418) C dL_law_2418 ?_
  refine a_iload_4 (pc := 2419) C dL_law_2419 ?_
  refine a_iconst (pc := 2421) C dL_law_2421 ic_1 ?_
  refine a_iadd (pc := 2422) C dL_law_2422 ?_
  refine a_xald (pc := 2423) C hX hbA hw.1 dL_law_2423 ?_
  have hw := hw.2
  refine l_callMi (pc := 2424) C hs [.int (xs (i + 1).toNatClampNeg)] (st := []) (fun h n u hV => ct_X6_hoursToSpoil l G _ _ _ _ hw h n u hV) (by decide) (by decide) rfl q77 q2133 q2134 q2135 (lw_meth q2136) sg_X6_hoursToSpoil (Nat.le_of_ble_eq_true rfl) dL_law_2424 (fun v4 μ1 hw => l_top (fun s3 es3 => ?_))
  have hw := hw s3 es3
  refine a_istore_6 (pc := 2427) C dL_law_2427 (by decide) rfl ?_
  refine a_aload_2 (pc := 2429) C dL_law_2429 ?_
  refine l_callMi (pc := 2430) C hs [] (st := []) (fun h n u hV => ct_X6_thrown l G _ _ _ hw h n u hV) (by decide) (by decide) rfl q77 q1786 q1787 q1788 (lw_meth q1789) sg_X6_thrown (Nat.le_of_ble_eq_true rfl) dL_law_2430 (fun v6 μ1 hw => l_top (fun s5 es5 => ?_))
  have hw := hw s5 es5
  refine a_iload_5 (pc := 2433) C dL_law_2433 ?_
  refine a_icmp_eq (pc := 2435) C 2440 dL_law_2435 (by decide) (fun c7 => ?_) (fun c7 => ?_)
  · have hw := hw.1 c7
    refine a_iload_5 (pc := 2440) C dL_law_2440 ?_
    refine a_if_ne (pc := 2442) C 2457 dL_law_2442 (by decide) (fun c8 => ?_) (fun c8 => ?_)
    · have hw := hw.1 c8
      refine a_goto (pc := 2457) C 2827 dL_law_2457 (by decide) ?_
      exact a_weak (a_le_some (a_le_some (a_le_some (a_le_some (a_le_some (a_le_none (a_le_none (a_le_none (a_le_none a_le_nil))))))))) (hKx _ hw)
    · have hw := hw.2 c8
      refine a_aload_3 (pc := 2445) C dL_law_2445 ?_
      refine a_iconst (pc := 2446) C dL_law_2446 ic_0 ?_
      obtain ⟨n9, f10, y1, y2, hw⟩ := hw
      refine l_laload (pc := 2447) C y1 y2 dL_law_2447 ?_
      refine a_iload_6 (pc := 2448) C dL_law_2448 ?_
      refine a_i2l (pc := 2450) C dL_law_2450 ?_
      refine a_lcmp (pc := 2451) C dL_law_2451 ?_
      refine a_if_eq (pc := 2452) C 2457 dL_law_2452 (by decide) (fun c11 => ?_) (fun c11 => ?_)
      · have hw := hw.1 c11
        refine a_goto (pc := 2457) C 2827 dL_law_2457 (by decide) ?_
        exact a_weak (a_le_some (a_le_some (a_le_some (a_le_some (a_le_some (a_le_none (a_le_none (a_le_none (a_le_none a_le_nil))))))))) (hKx _ hw)
      · have hw := hw.2 c11
        refine a_iconst (pc := 2455) C dL_law_2455 ic_0 ?_
        exact False.elim hw
  · have hw := hw.2 c7
    refine a_iconst (pc := 2438) C dL_law_2438 ic_0 ?_
    exact False.elim hw
def wp_law_45 (G : aG) (xs : Nat → Int32) (L9 x out : Nat) (i : Int32) (s0 : LWS) (Kx : LWS → Prop) : Prop := (vp_in (i + 1) L9 ∧ (jn (fun (x3 : Int32) => (5000 ≤ s0.1.2.2.1 ∧ oC s0.1 x 0 ∧ wp_X1_hoursToDry x x3 (oXs s0.1 5000) (fun v5 σ1 => ∀ s4 : LWS, s4 = (oXs σ1 (s0.1.2.2.1 - 5000), s0.2) → (vp_in (i + 1) L9 ∧ (jn (fun (x8 : Int32) => wp_X6_hoursToDry x8 s4.2 (fun v10 μ1 => ∀ s9 : LWS, s9 = (s4.1, μ1) → (((v5 = v10) → (Kx s9)) ∧ ((¬ v5 = v10) → False)))) (fun kj7 => ((((xs (i + 1).toNatClampNeg) = 0) → (kj7 0)) ∧ ((¬ (xs (i + 1).toNatClampNeg) = 0) → (kj7 1))))))))) (fun kj2 => ((((xs (i + 1).toNatClampNeg) = 0) → (kj2 0)) ∧ ((¬ (xs (i + 1).toNatClampNeg) = 0) → (kj2 1))))))
set_option maxHeartbeats 4000000 in
theorem law_45 {G : aG} {p : Program} {l : Launch} {e : Env} {s : State} {m : MethodId} {args : Array Value} {below : List Frame} {meth : Method} {c : Code} {A : Nat → Prop} {rt : Option FieldType} {Q : State → Prop} {nm : String} {KL n0 u0 mo b L9 x out : Nat} {xs : Nat → Int32} (C : Cx G p l s m args meth c A (yL nm) cL_law 9 rt) (hs : s.heap.size = n0 ∧ slT s.heap = u0) (hX : va_X b L9 xs s s.heap) (hbA : ¬ A b) (i : Int32) (s0 : LWS) (Kx : LWS → Prop) (hKx : ∀ s1 : LWS, Kx s1 → AW G p l e (aRm 200 KL (10 * KL)) s m args below meth c A 9 Q (LW n0 u0 KL mo s1.1 s1.2) 2827 [some (.ref b), some (.ref x), some (.ref mo), some (.ref out), some (.int i), none, none, none, none] []) (hw : wp_law_45 G xs L9 x out i s0 Kx) : AW G p l e (aRm 200 KL (10 * KL)) s m args below meth c A 9 Q (LW n0 u0 KL mo s0.1 s0.2) 2460 [some (.ref b), some (.ref x), some (.ref mo), some (.ref out), some (.int i), none, none, none, none] [] := by
  unfold wp_law_45 at hw
  refine a_aload_1 (pc := 2460) C dL_law_2460 ?_
  refine a_aload_0 (pc := 2461) C dL_law_2461 ?_
  refine a_iload_4 (pc := 2462) C dL_law_2462 ?_
  refine a_iconst (pc := 2464) C dL_law_2464 ic_1 ?_
  refine a_iadd (pc := 2465) C dL_law_2465 ?_
  refine a_xald (pc := 2466) C hX hbA hw.1 dL_law_2466 ?_
  have hw := hw.2
  refine jn_use hw (fun kj2 ekj2 hw => ?_)
  have hkj2 : ∀ (x3 : Int32), kj2 x3 → AW G p l e (aRm 200 KL (10 * KL)) s m args below meth c A 9 Q (LW n0 u0 KL mo s0.1 s0.2) 2475 [some (.ref b), some (.ref x), some (.ref mo), some (.ref out), some (.int i), none, none, none, none] [.int x3, .ref x] := by
    intro x3 hw
    rw [ekj2] at hw
    refine l_callVi (pc := 2475) C hs [.int x3] (b := x) (ci := 0) (st := []) 5000 hw.1 (fun h n u hB => ct_X1_hoursToDry l G x _ (lE mo) _ _ hw.2.2 h n u hB) (by decide) (by decide) rfl hw.2.1 q65 q1005 q1006 q1007 (lw_meth q1008) sg_X1_hoursToDry (Nat.le_of_ble_eq_true rfl) dL_law_2475 (fun v5 σ1 hw => l_top (fun s4 es4 => ?_))
    have hw := hw s4 es4
    refine a_aload_2 (pc := 2478) C dL_law_2478 ?_
    refine a_aload_0 (pc := 2479) C dL_law_2479 ?_
    refine a_iload_4 (pc := 2480) C dL_law_2480 ?_
    refine a_iconst (pc := 2482) C dL_law_2482 ic_1 ?_
    refine a_iadd (pc := 2483) C dL_law_2483 ?_
    refine a_xald (pc := 2484) C hX hbA hw.1 dL_law_2484 ?_
    have hw := hw.2
    refine jn_use hw (fun kj7 ekj7 hw => ?_)
    have hkj7 : ∀ (x8 : Int32), kj7 x8 → AW G p l e (aRm 200 KL (10 * KL)) s m args below meth c A 9 Q (LW n0 u0 KL mo s4.1 s4.2) 2493 [some (.ref b), some (.ref x), some (.ref mo), some (.ref out), some (.int i), none, none, none, none] [.int x8, .ref mo, .int v5] := by
      intro x8 hw
      rw [ekj7] at hw
      refine l_callMi (pc := 2493) C hs [.int x8] (st := [.int v5]) (fun h n u hV => ct_X6_hoursToDry l G _ _ _ _ hw h n u hV) (by decide) (by decide) rfl q77 q2137 q2138 q2139 (lw_meth q2140) sg_X6_hoursToDry (Nat.le_of_ble_eq_true rfl) dL_law_2493 (fun v10 μ1 hw => l_top (fun s9 es9 => ?_))
      have hw := hw s9 es9
      refine a_icmp_eq (pc := 2496) C 2827 dL_law_2496 (by decide) (fun c11 => ?_) (fun c11 => ?_)
      · have hw := hw.1 c11
        exact a_weak (a_le_some (a_le_some (a_le_some (a_le_some (a_le_some (a_le_none (a_le_none (a_le_none (a_le_none a_le_nil))))))))) (hKx _ hw)
      · have hw := hw.2 c11
        refine a_iconst (pc := 2499) C dL_law_2499 ic_0 ?_
        exact False.elim hw
    refine a_if_eq (pc := 2485) C 2492 dL_law_2485 (by decide) (fun c6 => ?_) (fun c6 => ?_)
    · have hw := hw.1 c6
      refine a_iconst (pc := 2492) C dL_law_2492 ic_0 ?_
      exact hkj7 _ hw
    · have hw := hw.2 c6
      refine a_iconst (pc := 2488) C dL_law_2488 ic_1 ?_
      refine a_goto (pc := 2489) C 2493 dL_law_2489 (by decide) ?_
      exact hkj7 _ hw
  refine a_if_eq (pc := 2467) C 2474 dL_law_2467 (by decide) (fun c1 => ?_) (fun c1 => ?_)
  · have hw := hw.1 c1
    refine a_iconst (pc := 2474) C dL_law_2474 ic_0 ?_
    exact hkj2 _ hw
  · have hw := hw.2 c1
    refine a_iconst (pc := 2470) C dL_law_2470 ic_1 ?_
    refine a_goto (pc := 2471) C 2475 dL_law_2471 (by decide) ?_
    exact hkj2 _ hw
def wp_law_46 (G : aG) (xs : Nat → Int32) (L9 x out : Nat) (i : Int32) (s0 : LWS) (Kx : LWS → Prop) : Prop := (vp_in (i + 1) L9 ∧ (5000 ≤ s0.1.2.2.1 ∧ wp_X0_bestAir x (xs (i + 1).toNatClampNeg) out (oXs s0.1 5000) (fun v2 σ1 => ∀ s1 : LWS, s1 = (oXs σ1 (s0.1.2.2.1 - 5000), s0.2) → (vp_in (i + 1) L9 ∧ wp_X6_bestAir (xs (i + 1).toNatClampNeg) s1.2 (fun v4 μ1 => ∀ s3 : LWS, s3 = (s1.1, μ1) → wp_X6_thrown s3.2 (fun v6 μ1 => ∀ s5 : LWS, s5 = (s3.1, μ1) → (((v6 = v2) → (((¬ v2 = 0) → (Kx s5)) ∧ ((v2 = 0) → (∃ (n9 : Nat) (f10 : Nat → Int64), s5.1.1 out = some (.inl (1, n9, .inr (.inl f10))) ∧ vp_in 0 n9 ∧ ((((lg_cmp (f10 (0 : Int32).toNatClampNeg) (v4.toInt64)) = 0) → (Kx s5)) ∧ ((¬ (lg_cmp (f10 (0 : Int32).toNatClampNeg) (v4.toInt64)) = 0) → False)))))) ∧ ((¬ v6 = v2) → False)))))) (fun _ _ => False)))
set_option maxHeartbeats 4000000 in
theorem law_46 {G : aG} {p : Program} {l : Launch} {e : Env} {s : State} {m : MethodId} {args : Array Value} {below : List Frame} {meth : Method} {c : Code} {A : Nat → Prop} {rt : Option FieldType} {Q : State → Prop} {nm : String} {KL n0 u0 mo b L9 x out : Nat} {xs : Nat → Int32} (C : Cx G p l s m args meth c A (yL nm) cL_law 9 rt) (hs : s.heap.size = n0 ∧ slT s.heap = u0) (hX : va_X b L9 xs s s.heap) (hbA : ¬ A b) (i : Int32) (s0 : LWS) (Kx : LWS → Prop) (hKx : ∀ s1 : LWS, Kx s1 → AW G p l e (aRm 200 KL (10 * KL)) s m args below meth c A 9 Q (LW n0 u0 KL mo s1.1 s1.2) 2827 [some (.ref b), some (.ref x), some (.ref mo), some (.ref out), some (.int i), none, none, none, none] []) (hw : wp_law_46 G xs L9 x out i s0 Kx) : AW G p l e (aRm 200 KL (10 * KL)) s m args below meth c A 9 Q (LW n0 u0 KL mo s0.1 s0.2) 2501 [some (.ref b), some (.ref x), some (.ref mo), some (.ref out), some (.int i), none, none, none, none] [] := by
  unfold wp_law_46 at hw
  refine a_aload_1 (pc := 2501) C dL_law_2501 ?_
  refine a_aload_0 (pc := 2502) C dL_law_2502 ?_
  refine a_iload_4 (pc := 2503) C dL_law_2503 ?_
  refine a_iconst (pc := 2505) C dL_law_2505 ic_1 ?_
  refine a_iadd (pc := 2506) C dL_law_2506 ?_
  refine a_xald (pc := 2507) C hX hbA hw.1 dL_law_2507 ?_
  have hw := hw.2
  refine a_aload_3 (pc := 2508) C dL_law_2508 ?_
  refine l_callSW (pc := 2509) C hs [.ref x, .int (xs (i + 1).toNatClampNeg), .ref out] (st := []) 5000 hw.1 (fun h n u hB => ct_X0_bestAir l G _ _ _ (lE mo) _ _ _ hw.2 h n u hB) (by decide) (by decide) (lw_SW q1729 q1730 q64 q1731) sg_X0_bestAir (Nat.le_of_ble_eq_true rfl) dL_law_2509 (fun v2 σ1 hw => l_top (fun s1 es1 => ?_))
  have hw := hw s1 es1
  refine a_istore_5 (pc := 2512) C dL_law_2512 (by decide) rfl ?_
  refine a_aload_2 (pc := 2514) C dL_law_2514 ?_
  refine a_aload_0 (pc := 2515) C dL_law_2515 ?_
  refine a_iload_4 (pc := 2516) C dL_law_2516 ?_
  refine a_iconst (pc := 2518) C dL_law_2518 ic_1 ?_
  refine a_iadd (pc := 2519) C dL_law_2519 ?_
  refine a_xald (pc := 2520) C hX hbA hw.1 dL_law_2520 ?_
  have hw := hw.2
  refine l_callMi (pc := 2521) C hs [.int (xs (i + 1).toNatClampNeg)] (st := []) (fun h n u hV => ct_X6_bestAir l G _ _ _ _ hw h n u hV) (by decide) (by decide) rfl q77 q2141 q2142 q2143 (lw_meth q2144) sg_X6_bestAir (Nat.le_of_ble_eq_true rfl) dL_law_2521 (fun v4 μ1 hw => l_top (fun s3 es3 => ?_))
  have hw := hw s3 es3
  refine a_istore_6 (pc := 2524) C dL_law_2524 (by decide) rfl ?_
  refine a_aload_2 (pc := 2526) C dL_law_2526 ?_
  refine l_callMi (pc := 2527) C hs [] (st := []) (fun h n u hV => ct_X6_thrown l G _ _ _ hw h n u hV) (by decide) (by decide) rfl q77 q1786 q1787 q1788 (lw_meth q1789) sg_X6_thrown (Nat.le_of_ble_eq_true rfl) dL_law_2527 (fun v6 μ1 hw => l_top (fun s5 es5 => ?_))
  have hw := hw s5 es5
  refine a_iload_5 (pc := 2530) C dL_law_2530 ?_
  refine a_icmp_eq (pc := 2532) C 2537 dL_law_2532 (by decide) (fun c7 => ?_) (fun c7 => ?_)
  · have hw := hw.1 c7
    refine a_iload_5 (pc := 2537) C dL_law_2537 ?_
    refine a_if_ne (pc := 2539) C 2554 dL_law_2539 (by decide) (fun c8 => ?_) (fun c8 => ?_)
    · have hw := hw.1 c8
      refine a_goto (pc := 2554) C 2827 dL_law_2554 (by decide) ?_
      exact a_weak (a_le_some (a_le_some (a_le_some (a_le_some (a_le_some (a_le_none (a_le_none (a_le_none (a_le_none a_le_nil))))))))) (hKx _ hw)
    · have hw := hw.2 c8
      refine a_aload_3 (pc := 2542) C dL_law_2542 ?_
      refine a_iconst (pc := 2543) C dL_law_2543 ic_0 ?_
      obtain ⟨n9, f10, y1, y2, hw⟩ := hw
      refine l_laload (pc := 2544) C y1 y2 dL_law_2544 ?_
      refine a_iload_6 (pc := 2545) C dL_law_2545 ?_
      refine a_i2l (pc := 2547) C dL_law_2547 ?_
      refine a_lcmp (pc := 2548) C dL_law_2548 ?_
      refine a_if_eq (pc := 2549) C 2554 dL_law_2549 (by decide) (fun c11 => ?_) (fun c11 => ?_)
      · have hw := hw.1 c11
        refine a_goto (pc := 2554) C 2827 dL_law_2554 (by decide) ?_
        exact a_weak (a_le_some (a_le_some (a_le_some (a_le_some (a_le_some (a_le_none (a_le_none (a_le_none (a_le_none a_le_nil))))))))) (hKx _ hw)
      · have hw := hw.2 c11
        refine a_iconst (pc := 2552) C dL_law_2552 ic_0 ?_
        exact False.elim hw
  · have hw := hw.2 c7
    refine a_iconst (pc := 2535) C dL_law_2535 ic_0 ?_
    exact False.elim hw
def wp_law_47 (G : aG) (xs : Nat → Int32) (L9 x out : Nat) (i : Int32) (s0 : LWS) (Kx : LWS → Prop) : Prop := (5000 ≤ s0.1.2.2.1 ∧ oC s0.1 x 0 ∧ wp_X1_entries x (oXs s0.1 5000) (fun v2 σ1 => ∀ s1 : LWS, s1 = (oXs σ1 (s0.1.2.2.1 - 5000), s0.2) → wp_X6_entries s1.2 (fun v4 μ1 => ∀ s3 : LWS, s3 = (s1.1, μ1) → (((v2 = v4) → (Kx s3)) ∧ ((¬ v2 = v4) → False)))))
set_option maxHeartbeats 4000000 in
theorem law_47 {G : aG} {p : Program} {l : Launch} {e : Env} {s : State} {m : MethodId} {args : Array Value} {below : List Frame} {meth : Method} {c : Code} {A : Nat → Prop} {rt : Option FieldType} {Q : State → Prop} {nm : String} {KL n0 u0 mo b L9 x out : Nat} {xs : Nat → Int32} (C : Cx G p l s m args meth c A (yL nm) cL_law 9 rt) (hs : s.heap.size = n0 ∧ slT s.heap = u0) (hX : va_X b L9 xs s s.heap) (hbA : ¬ A b) (i : Int32) (s0 : LWS) (Kx : LWS → Prop) (hKx : ∀ s1 : LWS, Kx s1 → AW G p l e (aRm 200 KL (10 * KL)) s m args below meth c A 9 Q (LW n0 u0 KL mo s1.1 s1.2) 2827 [some (.ref b), some (.ref x), some (.ref mo), some (.ref out), some (.int i), none, none, none, none] []) (hw : wp_law_47 G xs L9 x out i s0 Kx) : AW G p l e (aRm 200 KL (10 * KL)) s m args below meth c A 9 Q (LW n0 u0 KL mo s0.1 s0.2) 2557 [some (.ref b), some (.ref x), some (.ref mo), some (.ref out), some (.int i), none, none, none, none] [] := by
  unfold wp_law_47 at hw
  refine a_aload_1 (pc := 2557) C dL_law_2557 ?_
  refine l_callVi (pc := 2558) C hs [] (b := x) (ci := 0) (st := []) 5000 hw.1 (fun h n u hB => ct_X1_entries l G x (lE mo) _ _ hw.2.2 h n u hB) (by decide) (by decide) rfl hw.2.1 q65 q1161 q1162 q1163 (lw_meth q1164) sg_X1_entries (Nat.le_of_ble_eq_true rfl) dL_law_2558 (fun v2 σ1 hw => l_top (fun s1 es1 => ?_))
  have hw := hw s1 es1
  refine a_aload_2 (pc := 2561) C dL_law_2561 ?_
  refine l_callMi (pc := 2562) C hs [] (st := [.int v2]) (fun h n u hV => ct_X6_entries l G _ _ _ hw h n u hV) (by decide) (by decide) rfl q77 q2145 q2146 q2147 (lw_meth q2148) sg_X6_entries (Nat.le_of_ble_eq_true rfl) dL_law_2562 (fun v4 μ1 hw => l_top (fun s3 es3 => ?_))
  have hw := hw s3 es3
  refine a_icmp_eq (pc := 2565) C 2827 dL_law_2565 (by decide) (fun c5 => ?_) (fun c5 => ?_)
  · have hw := hw.1 c5
    exact a_weak (a_le_some (a_le_some (a_le_some (a_le_some (a_le_some (a_le_none (a_le_none (a_le_none (a_le_none a_le_nil))))))))) (hKx _ hw)
  · have hw := hw.2 c5
    refine a_iconst (pc := 2568) C dL_law_2568 ic_0 ?_
    exact False.elim hw
def wp_law_48 (G : aG) (xs : Nat → Int32) (L9 x out : Nat) (i : Int32) (s0 : LWS) (Kx : LWS → Prop) : Prop := (vp_in (i + 1) L9 ∧ (5000 ≤ s0.1.2.2.1 ∧ wp_X0_entryAt x (xs (i + 1).toNatClampNeg) out (oXs s0.1 5000) (fun v2 σ1 => ∀ s1 : LWS, s1 = (oXs σ1 (s0.1.2.2.1 - 5000), s0.2) → (vp_in (i + 1) L9 ∧ wp_X6_entryAt (xs (i + 1).toNatClampNeg) s1.2 (fun v4 μ1 => ∀ s3 : LWS, s3 = (s1.1, μ1) → wp_X6_thrown s3.2 (fun v6 μ1 => ∀ s5 : LWS, s5 = (s3.1, μ1) → (((v6 = v2) → (((¬ v2 = 0) → (Kx s5)) ∧ ((v2 = 0) → (∃ (n9 : Nat) (f10 : Nat → Int64), s5.1.1 out = some (.inl (1, n9, .inr (.inl f10))) ∧ vp_in 0 n9 ∧ ((((lg_cmp (f10 (0 : Int32).toNatClampNeg) (v4.toInt64)) = 0) → (Kx s5)) ∧ ((¬ (lg_cmp (f10 (0 : Int32).toNatClampNeg) (v4.toInt64)) = 0) → False)))))) ∧ ((¬ v6 = v2) → False)))))) (fun _ _ => False)))
set_option maxHeartbeats 4000000 in
theorem law_48 {G : aG} {p : Program} {l : Launch} {e : Env} {s : State} {m : MethodId} {args : Array Value} {below : List Frame} {meth : Method} {c : Code} {A : Nat → Prop} {rt : Option FieldType} {Q : State → Prop} {nm : String} {KL n0 u0 mo b L9 x out : Nat} {xs : Nat → Int32} (C : Cx G p l s m args meth c A (yL nm) cL_law 9 rt) (hs : s.heap.size = n0 ∧ slT s.heap = u0) (hX : va_X b L9 xs s s.heap) (hbA : ¬ A b) (i : Int32) (s0 : LWS) (Kx : LWS → Prop) (hKx : ∀ s1 : LWS, Kx s1 → AW G p l e (aRm 200 KL (10 * KL)) s m args below meth c A 9 Q (LW n0 u0 KL mo s1.1 s1.2) 2827 [some (.ref b), some (.ref x), some (.ref mo), some (.ref out), some (.int i), none, none, none, none] []) (hw : wp_law_48 G xs L9 x out i s0 Kx) : AW G p l e (aRm 200 KL (10 * KL)) s m args below meth c A 9 Q (LW n0 u0 KL mo s0.1 s0.2) 2570 [some (.ref b), some (.ref x), some (.ref mo), some (.ref out), some (.int i), none, none, none, none] [] := by
  unfold wp_law_48 at hw
  refine a_aload_1 (pc := 2570) C dL_law_2570 ?_
  refine a_aload_0 (pc := 2571) C dL_law_2571 ?_
  refine a_iload_4 (pc := 2572) C dL_law_2572 ?_
  refine a_iconst (pc := 2574) C dL_law_2574 ic_1 ?_
  refine a_iadd (pc := 2575) C dL_law_2575 ?_
  refine a_xald (pc := 2576) C hX hbA hw.1 dL_law_2576 ?_
  have hw := hw.2
  refine a_aload_3 (pc := 2577) C dL_law_2577 ?_
  refine l_callSW (pc := 2578) C hs [.ref x, .int (xs (i + 1).toNatClampNeg), .ref out] (st := []) 5000 hw.1 (fun h n u hB => ct_X0_entryAt l G _ _ _ (lE mo) _ _ _ hw.2 h n u hB) (by decide) (by decide) (lw_SW q1739 q1740 q64 q1741) sg_X0_entryAt (Nat.le_of_ble_eq_true rfl) dL_law_2578 (fun v2 σ1 hw => l_top (fun s1 es1 => ?_))
  have hw := hw s1 es1
  refine a_istore_5 (pc := 2581) C dL_law_2581 (by decide) rfl ?_
  refine a_aload_2 (pc := 2583) C dL_law_2583 ?_
  refine a_aload_0 (pc := 2584) C dL_law_2584 ?_
  refine a_iload_4 (pc := 2585) C dL_law_2585 ?_
  refine a_iconst (pc := 2587) C dL_law_2587 ic_1 ?_
  refine a_iadd (pc := 2588) C dL_law_2588 ?_
  refine a_xald (pc := 2589) C hX hbA hw.1 dL_law_2589 ?_
  have hw := hw.2
  refine l_callMi (pc := 2590) C hs [.int (xs (i + 1).toNatClampNeg)] (st := []) (fun h n u hV => ct_X6_entryAt l G _ _ _ _ hw h n u hV) (by decide) (by decide) rfl q77 q2149 q2150 q2151 (lw_meth q2152) sg_X6_entryAt (Nat.le_of_ble_eq_true rfl) dL_law_2590 (fun v4 μ1 hw => l_top (fun s3 es3 => ?_))
  have hw := hw s3 es3
  refine a_istore_6 (pc := 2593) C dL_law_2593 (by decide) rfl ?_
  refine a_aload_2 (pc := 2595) C dL_law_2595 ?_
  refine l_callMi (pc := 2596) C hs [] (st := []) (fun h n u hV => ct_X6_thrown l G _ _ _ hw h n u hV) (by decide) (by decide) rfl q77 q1786 q1787 q1788 (lw_meth q1789) sg_X6_thrown (Nat.le_of_ble_eq_true rfl) dL_law_2596 (fun v6 μ1 hw => l_top (fun s5 es5 => ?_))
  have hw := hw s5 es5
  refine a_iload_5 (pc := 2599) C dL_law_2599 ?_
  refine a_icmp_eq (pc := 2601) C 2606 dL_law_2601 (by decide) (fun c7 => ?_) (fun c7 => ?_)
  · have hw := hw.1 c7
    refine a_iload_5 (pc := 2606) C dL_law_2606 ?_
    refine a_if_ne (pc := 2608) C 2623 dL_law_2608 (by decide) (fun c8 => ?_) (fun c8 => ?_)
    · have hw := hw.1 c8
      refine a_goto (pc := 2623) C 2827 dL_law_2623 (by decide) ?_
      exact a_weak (a_le_some (a_le_some (a_le_some (a_le_some (a_le_some (a_le_none (a_le_none (a_le_none (a_le_none a_le_nil))))))))) (hKx _ hw)
    · have hw := hw.2 c8
      refine a_aload_3 (pc := 2611) C dL_law_2611 ?_
      refine a_iconst (pc := 2612) C dL_law_2612 ic_0 ?_
      obtain ⟨n9, f10, y1, y2, hw⟩ := hw
      refine l_laload (pc := 2613) C y1 y2 dL_law_2613 ?_
      refine a_iload_6 (pc := 2614) C dL_law_2614 ?_
      refine a_i2l (pc := 2616) C dL_law_2616 ?_
      refine a_lcmp (pc := 2617) C dL_law_2617 ?_
      refine a_if_eq (pc := 2618) C 2623 dL_law_2618 (by decide) (fun c11 => ?_) (fun c11 => ?_)
      · have hw := hw.1 c11
        refine a_goto (pc := 2623) C 2827 dL_law_2623 (by decide) ?_
        exact a_weak (a_le_some (a_le_some (a_le_some (a_le_some (a_le_some (a_le_none (a_le_none (a_le_none (a_le_none a_le_nil))))))))) (hKx _ hw)
      · have hw := hw.2 c11
        refine a_iconst (pc := 2621) C dL_law_2621 ic_0 ?_
        exact False.elim hw
  · have hw := hw.2 c7
    refine a_iconst (pc := 2604) C dL_law_2604 ic_0 ?_
    exact False.elim hw
def wp_law_49 (G : aG) (xs : Nat → Int32) (L9 x out : Nat) (i : Int32) (s0 : LWS) (Kx : LWS → Prop) : Prop := (5000 ≤ s0.1.2.2.1 ∧ oC s0.1 x 0 ∧ wp_X1_time x (oXs s0.1 5000) (fun v2 σ1 => ∀ s1 : LWS, s1 = (oXs σ1 (s0.1.2.2.1 - 5000), s0.2) → wp_X6_time s1.2 (fun v4 μ1 => ∀ s3 : LWS, s3 = (s1.1, μ1) → (((v2 = v4) → (Kx s3)) ∧ ((¬ v2 = v4) → False)))))
set_option maxHeartbeats 4000000 in
theorem law_49 {G : aG} {p : Program} {l : Launch} {e : Env} {s : State} {m : MethodId} {args : Array Value} {below : List Frame} {meth : Method} {c : Code} {A : Nat → Prop} {rt : Option FieldType} {Q : State → Prop} {nm : String} {KL n0 u0 mo b L9 x out : Nat} {xs : Nat → Int32} (C : Cx G p l s m args meth c A (yL nm) cL_law 9 rt) (hs : s.heap.size = n0 ∧ slT s.heap = u0) (hX : va_X b L9 xs s s.heap) (hbA : ¬ A b) (i : Int32) (s0 : LWS) (Kx : LWS → Prop) (hKx : ∀ s1 : LWS, Kx s1 → AW G p l e (aRm 200 KL (10 * KL)) s m args below meth c A 9 Q (LW n0 u0 KL mo s1.1 s1.2) 2827 [some (.ref b), some (.ref x), some (.ref mo), some (.ref out), some (.int i), none, none, none, none] []) (hw : wp_law_49 G xs L9 x out i s0 Kx) : AW G p l e (aRm 200 KL (10 * KL)) s m args below meth c A 9 Q (LW n0 u0 KL mo s0.1 s0.2) 2626 [some (.ref b), some (.ref x), some (.ref mo), some (.ref out), some (.int i), none, none, none, none] [] := by
  unfold wp_law_49 at hw
  refine a_aload_1 (pc := 2626) C dL_law_2626 ?_
  refine l_callVi (pc := 2627) C hs [] (b := x) (ci := 0) (st := []) 5000 hw.1 (fun h n u hB => ct_X1_time l G x (lE mo) _ _ hw.2.2 h n u hB) (by decide) (by decide) rfl hw.2.1 q65 q1170 q1171 q1172 (lw_meth q1173) sg_X1_time (Nat.le_of_ble_eq_true rfl) dL_law_2627 (fun v2 σ1 hw => l_top (fun s1 es1 => ?_))
  have hw := hw s1 es1
  refine a_aload_2 (pc := 2630) C dL_law_2630 ?_
  refine l_callMi (pc := 2631) C hs [] (st := [.int v2]) (fun h n u hV => ct_X6_time l G _ _ _ hw h n u hV) (by decide) (by decide) rfl q77 q2153 q2154 q2155 (lw_meth q2156) sg_X6_time (Nat.le_of_ble_eq_true rfl) dL_law_2631 (fun v4 μ1 hw => l_top (fun s3 es3 => ?_))
  have hw := hw s3 es3
  refine a_icmp_eq (pc := 2634) C 2827 dL_law_2634 (by decide) (fun c5 => ?_) (fun c5 => ?_)
  · have hw := hw.1 c5
    exact a_weak (a_le_some (a_le_some (a_le_some (a_le_some (a_le_some (a_le_none (a_le_none (a_le_none (a_le_none a_le_nil))))))))) (hKx _ hw)
  · have hw := hw.2 c5
    refine a_iconst (pc := 2637) C dL_law_2637 ic_0 ?_
    exact False.elim hw
def wp_law_50 (G : aG) (xs : Nat → Int32) (L9 x out : Nat) (i : Int32) (s0 : LWS) (Kx : LWS → Prop) : Prop := (vp_in (i + 1) L9 ∧ (jn (fun (x3 : Int32) => (5000 ≤ s0.1.2.2.1 ∧ oC s0.1 x 0 ∧ wp_X1_steeped x x3 (oXs s0.1 5000) (fun v5 σ1 => ∀ s4 : LWS, s4 = (oXs σ1 (s0.1.2.2.1 - 5000), s0.2) → (vp_in (i + 1) L9 ∧ (jn (fun (x8 : Int32) => wp_X6_steeped x8 s4.2 (fun v10 μ1 => ∀ s9 : LWS, s9 = (s4.1, μ1) → (((v5 = v10) → (Kx s9)) ∧ ((¬ v5 = v10) → False)))) (fun kj7 => ((((xs (i + 1).toNatClampNeg) = 0) → (kj7 0)) ∧ ((¬ (xs (i + 1).toNatClampNeg) = 0) → (kj7 1))))))))) (fun kj2 => ((((xs (i + 1).toNatClampNeg) = 0) → (kj2 0)) ∧ ((¬ (xs (i + 1).toNatClampNeg) = 0) → (kj2 1))))))
set_option maxHeartbeats 4000000 in
theorem law_50 {G : aG} {p : Program} {l : Launch} {e : Env} {s : State} {m : MethodId} {args : Array Value} {below : List Frame} {meth : Method} {c : Code} {A : Nat → Prop} {rt : Option FieldType} {Q : State → Prop} {nm : String} {KL n0 u0 mo b L9 x out : Nat} {xs : Nat → Int32} (C : Cx G p l s m args meth c A (yL nm) cL_law 9 rt) (hs : s.heap.size = n0 ∧ slT s.heap = u0) (hX : va_X b L9 xs s s.heap) (hbA : ¬ A b) (i : Int32) (s0 : LWS) (Kx : LWS → Prop) (hKx : ∀ s1 : LWS, Kx s1 → AW G p l e (aRm 200 KL (10 * KL)) s m args below meth c A 9 Q (LW n0 u0 KL mo s1.1 s1.2) 2827 [some (.ref b), some (.ref x), some (.ref mo), some (.ref out), some (.int i), none, none, none, none] []) (hw : wp_law_50 G xs L9 x out i s0 Kx) : AW G p l e (aRm 200 KL (10 * KL)) s m args below meth c A 9 Q (LW n0 u0 KL mo s0.1 s0.2) 2639 [some (.ref b), some (.ref x), some (.ref mo), some (.ref out), some (.int i), none, none, none, none] [] := by
  unfold wp_law_50 at hw
  refine a_aload_1 (pc := 2639) C dL_law_2639 ?_
  refine a_aload_0 (pc := 2640) C dL_law_2640 ?_
  refine a_iload_4 (pc := 2641) C dL_law_2641 ?_
  refine a_iconst (pc := 2643) C dL_law_2643 ic_1 ?_
  refine a_iadd (pc := 2644) C dL_law_2644 ?_
  refine a_xald (pc := 2645) C hX hbA hw.1 dL_law_2645 ?_
  have hw := hw.2
  refine jn_use hw (fun kj2 ekj2 hw => ?_)
  have hkj2 : ∀ (x3 : Int32), kj2 x3 → AW G p l e (aRm 200 KL (10 * KL)) s m args below meth c A 9 Q (LW n0 u0 KL mo s0.1 s0.2) 2654 [some (.ref b), some (.ref x), some (.ref mo), some (.ref out), some (.int i), none, none, none, none] [.int x3, .ref x] := by
    intro x3 hw
    rw [ekj2] at hw
    refine l_callVi (pc := 2654) C hs [.int x3] (b := x) (ci := 0) (st := []) 5000 hw.1 (fun h n u hB => ct_X1_steeped l G x _ (lE mo) _ _ hw.2.2 h n u hB) (by decide) (by decide) rfl hw.2.1 q65 q1174 q1175 q1176 (lw_meth q1177) sg_X1_steeped (Nat.le_of_ble_eq_true rfl) dL_law_2654 (fun v5 σ1 hw => l_top (fun s4 es4 => ?_))
    have hw := hw s4 es4
    refine a_aload_2 (pc := 2657) C dL_law_2657 ?_
    refine a_aload_0 (pc := 2658) C dL_law_2658 ?_
    refine a_iload_4 (pc := 2659) C dL_law_2659 ?_
    refine a_iconst (pc := 2661) C dL_law_2661 ic_1 ?_
    refine a_iadd (pc := 2662) C dL_law_2662 ?_
    refine a_xald (pc := 2663) C hX hbA hw.1 dL_law_2663 ?_
    have hw := hw.2
    refine jn_use hw (fun kj7 ekj7 hw => ?_)
    have hkj7 : ∀ (x8 : Int32), kj7 x8 → AW G p l e (aRm 200 KL (10 * KL)) s m args below meth c A 9 Q (LW n0 u0 KL mo s4.1 s4.2) 2672 [some (.ref b), some (.ref x), some (.ref mo), some (.ref out), some (.int i), none, none, none, none] [.int x8, .ref mo, .int v5] := by
      intro x8 hw
      rw [ekj7] at hw
      refine l_callMi (pc := 2672) C hs [.int x8] (st := [.int v5]) (fun h n u hV => ct_X6_steeped l G _ _ _ _ hw h n u hV) (by decide) (by decide) rfl q77 q2157 q2158 q2159 (lw_meth q2160) sg_X6_steeped (Nat.le_of_ble_eq_true rfl) dL_law_2672 (fun v10 μ1 hw => l_top (fun s9 es9 => ?_))
      have hw := hw s9 es9
      refine a_icmp_eq (pc := 2675) C 2827 dL_law_2675 (by decide) (fun c11 => ?_) (fun c11 => ?_)
      · have hw := hw.1 c11
        exact a_weak (a_le_some (a_le_some (a_le_some (a_le_some (a_le_some (a_le_none (a_le_none (a_le_none (a_le_none a_le_nil))))))))) (hKx _ hw)
      · have hw := hw.2 c11
        refine a_iconst (pc := 2678) C dL_law_2678 ic_0 ?_
        exact False.elim hw
    refine a_if_eq (pc := 2664) C 2671 dL_law_2664 (by decide) (fun c6 => ?_) (fun c6 => ?_)
    · have hw := hw.1 c6
      refine a_iconst (pc := 2671) C dL_law_2671 ic_0 ?_
      exact hkj7 _ hw
    · have hw := hw.2 c6
      refine a_iconst (pc := 2667) C dL_law_2667 ic_1 ?_
      refine a_goto (pc := 2668) C 2672 dL_law_2668 (by decide) ?_
      exact hkj7 _ hw
  refine a_if_eq (pc := 2646) C 2653 dL_law_2646 (by decide) (fun c1 => ?_) (fun c1 => ?_)
  · have hw := hw.1 c1
    refine a_iconst (pc := 2653) C dL_law_2653 ic_0 ?_
    exact hkj2 _ hw
  · have hw := hw.2 c1
    refine a_iconst (pc := 2649) C dL_law_2649 ic_1 ?_
    refine a_goto (pc := 2650) C 2654 dL_law_2650 (by decide) ?_
    exact hkj2 _ hw
def wp_law_51 (G : aG) (xs : Nat → Int32) (L9 x out : Nat) (i : Int32) (s0 : LWS) (Kx : LWS → Prop) : Prop := (5000 ≤ s0.1.2.2.1 ∧ oC s0.1 x 0 ∧ wp_X1_malt x (oXs s0.1 5000) (fun v2 σ1 => ∀ s1 : LWS, s1 = (oXs σ1 (s0.1.2.2.1 - 5000), s0.2) → wp_X6_malt s1.2 (fun v4 μ1 => ∀ s3 : LWS, s3 = (s1.1, μ1) → (((v2 = v4) → (Kx s3)) ∧ ((¬ v2 = v4) → False)))))
set_option maxHeartbeats 4000000 in
theorem law_51 {G : aG} {p : Program} {l : Launch} {e : Env} {s : State} {m : MethodId} {args : Array Value} {below : List Frame} {meth : Method} {c : Code} {A : Nat → Prop} {rt : Option FieldType} {Q : State → Prop} {nm : String} {KL n0 u0 mo b L9 x out : Nat} {xs : Nat → Int32} (C : Cx G p l s m args meth c A (yL nm) cL_law 9 rt) (hs : s.heap.size = n0 ∧ slT s.heap = u0) (hX : va_X b L9 xs s s.heap) (hbA : ¬ A b) (i : Int32) (s0 : LWS) (Kx : LWS → Prop) (hKx : ∀ s1 : LWS, Kx s1 → AW G p l e (aRm 200 KL (10 * KL)) s m args below meth c A 9 Q (LW n0 u0 KL mo s1.1 s1.2) 2827 [some (.ref b), some (.ref x), some (.ref mo), some (.ref out), some (.int i), none, none, none, none] []) (hw : wp_law_51 G xs L9 x out i s0 Kx) : AW G p l e (aRm 200 KL (10 * KL)) s m args below meth c A 9 Q (LW n0 u0 KL mo s0.1 s0.2) 2680 [some (.ref b), some (.ref x), some (.ref mo), some (.ref out), some (.int i), none, none, none, none] [] := by
  unfold wp_law_51 at hw
  refine a_aload_1 (pc := 2680) C dL_law_2680 ?_
  refine l_callVi (pc := 2681) C hs [] (b := x) (ci := 0) (st := []) 5000 hw.1 (fun h n u hB => ct_X1_malt l G x (lE mo) _ _ hw.2.2 h n u hB) (by decide) (by decide) rfl hw.2.1 q65 q1198 q1179 q1180 (lw_meth q1181) sg_X1_malt (Nat.le_of_ble_eq_true rfl) dL_law_2681 (fun v2 σ1 hw => l_top (fun s1 es1 => ?_))
  have hw := hw s1 es1
  refine a_aload_2 (pc := 2684) C dL_law_2684 ?_
  refine l_callMi (pc := 2685) C hs [] (st := [.int v2]) (fun h n u hV => ct_X6_malt l G _ _ _ hw h n u hV) (by decide) (by decide) rfl q77 q2161 q2162 q2163 (lw_meth q2164) sg_X6_malt (Nat.le_of_ble_eq_true rfl) dL_law_2685 (fun v4 μ1 hw => l_top (fun s3 es3 => ?_))
  have hw := hw s3 es3
  refine a_icmp_eq (pc := 2688) C 2827 dL_law_2688 (by decide) (fun c5 => ?_) (fun c5 => ?_)
  · have hw := hw.1 c5
    exact a_weak (a_le_some (a_le_some (a_le_some (a_le_some (a_le_some (a_le_none (a_le_none (a_le_none (a_le_none a_le_nil))))))))) (hKx _ hw)
  · have hw := hw.2 c5
    refine a_iconst (pc := 2691) C dL_law_2691 ic_0 ?_
    exact False.elim hw
def wp_law_52 (G : aG) (xs : Nat → Int32) (L9 x out : Nat) (i : Int32) (s0 : LWS) (Kx : LWS → Prop) : Prop := (5000 ≤ s0.1.2.2.1 ∧ oC s0.1 x 0 ∧ wp_X1_culms x (oXs s0.1 5000) (fun v2 σ1 => ∀ s1 : LWS, s1 = (oXs σ1 (s0.1.2.2.1 - 5000), s0.2) → wp_X6_culms s1.2 (fun v4 μ1 => ∀ s3 : LWS, s3 = (s1.1, μ1) → (((v2 = v4) → (Kx s3)) ∧ ((¬ v2 = v4) → False)))))
set_option maxHeartbeats 4000000 in
theorem law_52 {G : aG} {p : Program} {l : Launch} {e : Env} {s : State} {m : MethodId} {args : Array Value} {below : List Frame} {meth : Method} {c : Code} {A : Nat → Prop} {rt : Option FieldType} {Q : State → Prop} {nm : String} {KL n0 u0 mo b L9 x out : Nat} {xs : Nat → Int32} (C : Cx G p l s m args meth c A (yL nm) cL_law 9 rt) (hs : s.heap.size = n0 ∧ slT s.heap = u0) (hX : va_X b L9 xs s s.heap) (hbA : ¬ A b) (i : Int32) (s0 : LWS) (Kx : LWS → Prop) (hKx : ∀ s1 : LWS, Kx s1 → AW G p l e (aRm 200 KL (10 * KL)) s m args below meth c A 9 Q (LW n0 u0 KL mo s1.1 s1.2) 2827 [some (.ref b), some (.ref x), some (.ref mo), some (.ref out), some (.int i), none, none, none, none] []) (hw : wp_law_52 G xs L9 x out i s0 Kx) : AW G p l e (aRm 200 KL (10 * KL)) s m args below meth c A 9 Q (LW n0 u0 KL mo s0.1 s0.2) 2693 [some (.ref b), some (.ref x), some (.ref mo), some (.ref out), some (.int i), none, none, none, none] [] := by
  unfold wp_law_52 at hw
  refine a_aload_1 (pc := 2693) C dL_law_2693 ?_
  refine l_callVi (pc := 2694) C hs [] (b := x) (ci := 0) (st := []) 5000 hw.1 (fun h n u hB => ct_X1_culms l G x (lE mo) _ _ hw.2.2 h n u hB) (by decide) (by decide) rfl hw.2.1 q65 q1199 q1187 q1188 (lw_meth q1189) sg_X1_culms (Nat.le_of_ble_eq_true rfl) dL_law_2694 (fun v2 σ1 hw => l_top (fun s1 es1 => ?_))
  have hw := hw s1 es1
  refine a_aload_2 (pc := 2697) C dL_law_2697 ?_
  refine l_callMi (pc := 2698) C hs [] (st := [.int v2]) (fun h n u hV => ct_X6_culms l G _ _ _ hw h n u hV) (by decide) (by decide) rfl q77 q2165 q2166 q2167 (lw_meth q2168) sg_X6_culms (Nat.le_of_ble_eq_true rfl) dL_law_2698 (fun v4 μ1 hw => l_top (fun s3 es3 => ?_))
  have hw := hw s3 es3
  refine a_icmp_eq (pc := 2701) C 2827 dL_law_2701 (by decide) (fun c5 => ?_) (fun c5 => ?_)
  · have hw := hw.1 c5
    exact a_weak (a_le_some (a_le_some (a_le_some (a_le_some (a_le_some (a_le_none (a_le_none (a_le_none (a_le_none a_le_nil))))))))) (hKx _ hw)
  · have hw := hw.2 c5
    refine a_iconst (pc := 2704) C dL_law_2704 ic_0 ?_
    exact False.elim hw
def wp_law_53 (G : aG) (xs : Nat → Int32) (L9 x out : Nat) (i : Int32) (s0 : LWS) (Kx : LWS → Prop) : Prop := (5000 ≤ s0.1.2.2.1 ∧ oC s0.1 x 0 ∧ wp_X1_spoilt x (oXs s0.1 5000) (fun v2 σ1 => ∀ s1 : LWS, s1 = (oXs σ1 (s0.1.2.2.1 - 5000), s0.2) → wp_X6_spoilt s1.2 (fun v4 μ1 => ∀ s3 : LWS, s3 = (s1.1, μ1) → (((v2 = v4) → (Kx s3)) ∧ ((¬ v2 = v4) → False)))))
set_option maxHeartbeats 4000000 in
theorem law_53 {G : aG} {p : Program} {l : Launch} {e : Env} {s : State} {m : MethodId} {args : Array Value} {below : List Frame} {meth : Method} {c : Code} {A : Nat → Prop} {rt : Option FieldType} {Q : State → Prop} {nm : String} {KL n0 u0 mo b L9 x out : Nat} {xs : Nat → Int32} (C : Cx G p l s m args meth c A (yL nm) cL_law 9 rt) (hs : s.heap.size = n0 ∧ slT s.heap = u0) (hX : va_X b L9 xs s s.heap) (hbA : ¬ A b) (i : Int32) (s0 : LWS) (Kx : LWS → Prop) (hKx : ∀ s1 : LWS, Kx s1 → AW G p l e (aRm 200 KL (10 * KL)) s m args below meth c A 9 Q (LW n0 u0 KL mo s1.1 s1.2) 2827 [some (.ref b), some (.ref x), some (.ref mo), some (.ref out), some (.int i), none, none, none, none] []) (hw : wp_law_53 G xs L9 x out i s0 Kx) : AW G p l e (aRm 200 KL (10 * KL)) s m args below meth c A 9 Q (LW n0 u0 KL mo s0.1 s0.2) 2706 [some (.ref b), some (.ref x), some (.ref mo), some (.ref out), some (.int i), none, none, none, none] [] := by
  unfold wp_law_53 at hw
  refine a_aload_1 (pc := 2706) C dL_law_2706 ?_
  refine l_callVi (pc := 2707) C hs [] (b := x) (ci := 0) (st := []) 5000 hw.1 (fun h n u hB => ct_X1_spoilt l G x (lE mo) _ _ hw.2.2 h n u hB) (by decide) (by decide) rfl hw.2.1 q65 q1200 q1191 q1192 (lw_meth q1193) sg_X1_spoilt (Nat.le_of_ble_eq_true rfl) dL_law_2707 (fun v2 σ1 hw => l_top (fun s1 es1 => ?_))
  have hw := hw s1 es1
  refine a_aload_2 (pc := 2710) C dL_law_2710 ?_
  refine l_callMi (pc := 2711) C hs [] (st := [.int v2]) (fun h n u hV => ct_X6_spoilt l G _ _ _ hw h n u hV) (by decide) (by decide) rfl q77 q2169 q2170 q2171 (lw_meth q2172) sg_X6_spoilt (Nat.le_of_ble_eq_true rfl) dL_law_2711 (fun v4 μ1 hw => l_top (fun s3 es3 => ?_))
  have hw := hw s3 es3
  refine a_icmp_eq (pc := 2714) C 2827 dL_law_2714 (by decide) (fun c5 => ?_) (fun c5 => ?_)
  · have hw := hw.1 c5
    exact a_weak (a_le_some (a_le_some (a_le_some (a_le_some (a_le_some (a_le_none (a_le_none (a_le_none (a_le_none a_le_nil))))))))) (hKx _ hw)
  · have hw := hw.2 c5
    refine a_iconst (pc := 2717) C dL_law_2717 ic_0 ?_
    exact False.elim hw
def wp_law_54 (G : aG) (xs : Nat → Int32) (L9 x out : Nat) (i : Int32) (s0 : LWS) (Kx : LWS → Prop) : Prop := (5000 ≤ s0.1.2.2.1 ∧ oC s0.1 x 0 ∧ wp_X1_breathed x (oXs s0.1 5000) (fun v2 σ1 => ∀ s1 : LWS, s1 = (oXs σ1 (s0.1.2.2.1 - 5000), s0.2) → wp_X6_breathed s1.2 (fun v4 μ1 => ∀ s3 : LWS, s3 = (s1.1, μ1) → (((v2 = v4) → (Kx s3)) ∧ ((¬ v2 = v4) → False)))))
set_option maxHeartbeats 4000000 in
theorem law_54 {G : aG} {p : Program} {l : Launch} {e : Env} {s : State} {m : MethodId} {args : Array Value} {below : List Frame} {meth : Method} {c : Code} {A : Nat → Prop} {rt : Option FieldType} {Q : State → Prop} {nm : String} {KL n0 u0 mo b L9 x out : Nat} {xs : Nat → Int32} (C : Cx G p l s m args meth c A (yL nm) cL_law 9 rt) (hs : s.heap.size = n0 ∧ slT s.heap = u0) (hX : va_X b L9 xs s s.heap) (hbA : ¬ A b) (i : Int32) (s0 : LWS) (Kx : LWS → Prop) (hKx : ∀ s1 : LWS, Kx s1 → AW G p l e (aRm 200 KL (10 * KL)) s m args below meth c A 9 Q (LW n0 u0 KL mo s1.1 s1.2) 2827 [some (.ref b), some (.ref x), some (.ref mo), some (.ref out), some (.int i), none, none, none, none] []) (hw : wp_law_54 G xs L9 x out i s0 Kx) : AW G p l e (aRm 200 KL (10 * KL)) s m args below meth c A 9 Q (LW n0 u0 KL mo s0.1 s0.2) 2719 [some (.ref b), some (.ref x), some (.ref mo), some (.ref out), some (.int i), none, none, none, none] [] := by
  unfold wp_law_54 at hw
  refine a_aload_1 (pc := 2719) C dL_law_2719 ?_
  refine l_callVi (pc := 2720) C hs [] (b := x) (ci := 0) (st := []) 5000 hw.1 (fun h n u hB => ct_X1_breathed l G x (lE mo) _ _ hw.2.2 h n u hB) (by decide) (by decide) rfl hw.2.1 q65 q1201 q1195 q1196 (lw_meth q1197) sg_X1_breathed (Nat.le_of_ble_eq_true rfl) dL_law_2720 (fun v2 σ1 hw => l_top (fun s1 es1 => ?_))
  have hw := hw s1 es1
  refine a_aload_2 (pc := 2723) C dL_law_2723 ?_
  refine l_callMi (pc := 2724) C hs [] (st := [.int v2]) (fun h n u hV => ct_X6_breathed l G _ _ _ hw h n u hV) (by decide) (by decide) rfl q77 q2173 q2174 q2175 (lw_meth q2176) sg_X6_breathed (Nat.le_of_ble_eq_true rfl) dL_law_2724 (fun v4 μ1 hw => l_top (fun s3 es3 => ?_))
  have hw := hw s3 es3
  refine a_icmp_eq (pc := 2727) C 2827 dL_law_2727 (by decide) (fun c5 => ?_) (fun c5 => ?_)
  · have hw := hw.1 c5
    exact a_weak (a_le_some (a_le_some (a_le_some (a_le_some (a_le_some (a_le_none (a_le_none (a_le_none (a_le_none a_le_nil))))))))) (hKx _ hw)
  · have hw := hw.2 c5
    refine a_iconst (pc := 2730) C dL_law_2730 ic_0 ?_
    exact False.elim hw
def wp_law_55 (G : aG) (xs : Nat → Int32) (L9 x out : Nat) (i : Int32) (s0 : LWS) (Kx : LWS → Prop) : Prop := (5000 ≤ s0.1.2.2.1 ∧ oC s0.1 x 0 ∧ wp_X1_sprays x (oXs s0.1 5000) (fun v2 σ1 => ∀ s1 : LWS, s1 = (oXs σ1 (s0.1.2.2.1 - 5000), s0.2) → wp_X6_sprays s1.2 (fun v4 μ1 => ∀ s3 : LWS, s3 = (s1.1, μ1) → (((v2 = v4) → (Kx s3)) ∧ ((¬ v2 = v4) → False)))))
set_option maxHeartbeats 4000000 in
theorem law_55 {G : aG} {p : Program} {l : Launch} {e : Env} {s : State} {m : MethodId} {args : Array Value} {below : List Frame} {meth : Method} {c : Code} {A : Nat → Prop} {rt : Option FieldType} {Q : State → Prop} {nm : String} {KL n0 u0 mo b L9 x out : Nat} {xs : Nat → Int32} (C : Cx G p l s m args meth c A (yL nm) cL_law 9 rt) (hs : s.heap.size = n0 ∧ slT s.heap = u0) (hX : va_X b L9 xs s s.heap) (hbA : ¬ A b) (i : Int32) (s0 : LWS) (Kx : LWS → Prop) (hKx : ∀ s1 : LWS, Kx s1 → AW G p l e (aRm 200 KL (10 * KL)) s m args below meth c A 9 Q (LW n0 u0 KL mo s1.1 s1.2) 2827 [some (.ref b), some (.ref x), some (.ref mo), some (.ref out), some (.int i), none, none, none, none] []) (hw : wp_law_55 G xs L9 x out i s0 Kx) : AW G p l e (aRm 200 KL (10 * KL)) s m args below meth c A 9 Q (LW n0 u0 KL mo s0.1 s0.2) 2732 [some (.ref b), some (.ref x), some (.ref mo), some (.ref out), some (.int i), none, none, none, none] [] := by
  unfold wp_law_55 at hw
  refine a_aload_1 (pc := 2732) C dL_law_2732 ?_
  refine l_callVi (pc := 2733) C hs [] (b := x) (ci := 0) (st := []) 5000 hw.1 (fun h n u hB => ct_X1_sprays l G x (lE mo) _ _ hw.2.2 h n u hB) (by decide) (by decide) rfl hw.2.1 q65 q1202 q1203 q1204 (lw_meth q1205) sg_X1_sprays (Nat.le_of_ble_eq_true rfl) dL_law_2733 (fun v2 σ1 hw => l_top (fun s1 es1 => ?_))
  have hw := hw s1 es1
  refine a_aload_2 (pc := 2736) C dL_law_2736 ?_
  refine l_callMi (pc := 2737) C hs [] (st := [.int v2]) (fun h n u hV => ct_X6_sprays l G _ _ _ hw h n u hV) (by decide) (by decide) rfl q77 q2177 q2178 q2179 (lw_meth q2180) sg_X6_sprays (Nat.le_of_ble_eq_true rfl) dL_law_2737 (fun v4 μ1 hw => l_top (fun s3 es3 => ?_))
  have hw := hw s3 es3
  refine a_icmp_eq (pc := 2740) C 2827 dL_law_2740 (by decide) (fun c5 => ?_) (fun c5 => ?_)
  · have hw := hw.1 c5
    exact a_weak (a_le_some (a_le_some (a_le_some (a_le_some (a_le_some (a_le_none (a_le_none (a_le_none (a_le_none a_le_nil))))))))) (hKx _ hw)
  · have hw := hw.2 c5
    refine a_iconst (pc := 2743) C dL_law_2743 ic_0 ?_
    exact False.elim hw
def wp_law_56 (G : aG) (xs : Nat → Int32) (L9 x out : Nat) (i : Int32) (s0 : LWS) (Kx : LWS → Prop) : Prop := (5000 ≤ s0.1.2.2.1 ∧ oC s0.1 x 0 ∧ wp_X1_meanGrowth x (oXs s0.1 5000) (fun v2 σ1 => ∀ s1 : LWS, s1 = (oXs σ1 (s0.1.2.2.1 - 5000), s0.2) → wp_X6_meanGrowth s1.2 (fun v4 μ1 => ∀ s3 : LWS, s3 = (s1.1, μ1) → ((((Op.cmpValue (FP.dcmp v2 v4) .l) = 0) → (Kx s3)) ∧ ((¬ (Op.cmpValue (FP.dcmp v2 v4) .l) = 0) → ((((Op.cmpValue (FP.dcmp v2 v2) .l) = 0) → False) ∧ ((¬ (Op.cmpValue (FP.dcmp v2 v2) .l) = 0) → (((¬ (Op.cmpValue (FP.dcmp v4 v4) .l) = 0) → (Kx s3)) ∧ (((Op.cmpValue (FP.dcmp v4 v4) .l) = 0) → False)))))))))
set_option maxHeartbeats 4000000 in
theorem law_56 {G : aG} {p : Program} {l : Launch} {e : Env} {s : State} {m : MethodId} {args : Array Value} {below : List Frame} {meth : Method} {c : Code} {A : Nat → Prop} {rt : Option FieldType} {Q : State → Prop} {nm : String} {KL n0 u0 mo b L9 x out : Nat} {xs : Nat → Int32} (C : Cx G p l s m args meth c A (yL nm) cL_law 9 rt) (hs : s.heap.size = n0 ∧ slT s.heap = u0) (hX : va_X b L9 xs s s.heap) (hbA : ¬ A b) (i : Int32) (s0 : LWS) (Kx : LWS → Prop) (hKx : ∀ s1 : LWS, Kx s1 → AW G p l e (aRm 200 KL (10 * KL)) s m args below meth c A 9 Q (LW n0 u0 KL mo s1.1 s1.2) 2827 [some (.ref b), some (.ref x), some (.ref mo), some (.ref out), some (.int i), none, none, none, none] []) (hw : wp_law_56 G xs L9 x out i s0 Kx) : AW G p l e (aRm 200 KL (10 * KL)) s m args below meth c A 9 Q (LW n0 u0 KL mo s0.1 s0.2) 2745 [some (.ref b), some (.ref x), some (.ref mo), some (.ref out), some (.int i), none, none, none, none] [] := by
  unfold wp_law_56 at hw
  refine a_aload_1 (pc := 2745) C dL_law_2745 ?_
  refine l_callVd (pc := 2746) C hs [] (b := x) (ci := 0) (st := []) 5000 hw.1 (fun h n u hB => ct_X1_meanGrowth l G x (lE mo) _ _ hw.2.2 h n u hB) (by decide) (by decide) rfl hw.2.1 q65 q1206 q1207 q1208 (lw_meth q1209) sg_X1_meanGrowth (Nat.le_of_ble_eq_true rfl) dL_law_2746 (fun v2 σ1 hw => l_top (fun s1 es1 => ?_))
  have hw := hw s1 es1
  refine a_dstore_5 (pc := 2749) C dL_law_2749 (by decide) rfl ?_
  refine a_aload_2 (pc := 2751) C dL_law_2751 ?_
  refine l_callMd (pc := 2752) C hs [] (st := []) (fun h n u hV => ct_X6_meanGrowth l G _ _ _ hw h n u hV) (by decide) (by decide) rfl q77 q2181 q2182 q2183 (lw_meth q2184) sg_X6_meanGrowth (Nat.le_of_ble_eq_true rfl) dL_law_2752 (fun v4 μ1 hw => l_top (fun s3 es3 => ?_))
  have hw := hw s3 es3
  refine a_dstore_7 (pc := 2755) C dL_law_2755 (by decide) rfl ?_
  refine a_dload_5 (pc := 2757) C dL_law_2757 ?_
  refine a_dload_7 (pc := 2759) C dL_law_2759 ?_
  refine a_dcmp (pc := 2761) C dL_law_2761 ?_
  refine a_if_eq (pc := 2762) C 2783 dL_law_2762 (by decide) (fun c5 => ?_) (fun c5 => ?_)
  · have hw := hw.1 c5
    refine a_goto (pc := 2783) C 2827 dL_law_2783 (by decide) ?_
    exact a_weak (a_le_some (a_le_some (a_le_some (a_le_some (a_le_some (a_le_none (a_le_none (a_le_none (a_le_none a_le_nil))))))))) (hKx _ hw)
  · have hw := hw.2 c5
    refine a_dload_5 (pc := 2765) C dL_law_2765 ?_
    refine a_dload_5 (pc := 2767) C dL_law_2767 ?_
    refine a_dcmp (pc := 2769) C dL_law_2769 ?_
    refine a_if_eq (pc := 2770) C 2781 dL_law_2770 (by decide) (fun c6 => ?_) (fun c6 => ?_)
    · have hw := hw.1 c6
      refine a_iconst (pc := 2781) C dL_law_2781 ic_0 ?_
      exact False.elim hw
    · have hw := hw.2 c6
      refine a_dload_7 (pc := 2773) C dL_law_2773 ?_
      refine a_dload_7 (pc := 2775) C dL_law_2775 ?_
      refine a_dcmp (pc := 2777) C dL_law_2777 ?_
      refine a_if_ne (pc := 2778) C 2783 dL_law_2778 (by decide) (fun c7 => ?_) (fun c7 => ?_)
      · have hw := hw.1 c7
        refine a_goto (pc := 2783) C 2827 dL_law_2783 (by decide) ?_
        exact a_weak (a_le_some (a_le_some (a_le_some (a_le_some (a_le_some (a_le_none (a_le_none (a_le_none (a_le_none a_le_nil))))))))) (hKx _ hw)
      · have hw := hw.2 c7
        refine a_iconst (pc := 2781) C dL_law_2781 ic_0 ?_
        exact False.elim hw
def wp_law_57 (G : aG) (xs : Nat → Int32) (L9 x out : Nat) (i : Int32) (s0 : LWS) (Kx : LWS → Prop) : Prop := (5000 ≤ s0.1.2.2.1 ∧ oC s0.1 x 0 ∧ wp_X1_meanHeat x (oXs s0.1 5000) (fun v2 σ1 => ∀ s1 : LWS, s1 = (oXs σ1 (s0.1.2.2.1 - 5000), s0.2) → wp_X6_meanHeat s1.2 (fun v4 μ1 => ∀ s3 : LWS, s3 = (s1.1, μ1) → ((((Op.cmpValue (FP.dcmp v2 v4) .l) = 0) → (Kx s3)) ∧ ((¬ (Op.cmpValue (FP.dcmp v2 v4) .l) = 0) → ((((Op.cmpValue (FP.dcmp v2 v2) .l) = 0) → False) ∧ ((¬ (Op.cmpValue (FP.dcmp v2 v2) .l) = 0) → (((¬ (Op.cmpValue (FP.dcmp v4 v4) .l) = 0) → (Kx s3)) ∧ (((Op.cmpValue (FP.dcmp v4 v4) .l) = 0) → False)))))))))
set_option maxHeartbeats 4000000 in
theorem law_57 {G : aG} {p : Program} {l : Launch} {e : Env} {s : State} {m : MethodId} {args : Array Value} {below : List Frame} {meth : Method} {c : Code} {A : Nat → Prop} {rt : Option FieldType} {Q : State → Prop} {nm : String} {KL n0 u0 mo b L9 x out : Nat} {xs : Nat → Int32} (C : Cx G p l s m args meth c A (yL nm) cL_law 9 rt) (hs : s.heap.size = n0 ∧ slT s.heap = u0) (hX : va_X b L9 xs s s.heap) (hbA : ¬ A b) (i : Int32) (s0 : LWS) (Kx : LWS → Prop) (hKx : ∀ s1 : LWS, Kx s1 → AW G p l e (aRm 200 KL (10 * KL)) s m args below meth c A 9 Q (LW n0 u0 KL mo s1.1 s1.2) 2827 [some (.ref b), some (.ref x), some (.ref mo), some (.ref out), some (.int i), none, none, none, none] []) (hw : wp_law_57 G xs L9 x out i s0 Kx) : AW G p l e (aRm 200 KL (10 * KL)) s m args below meth c A 9 Q (LW n0 u0 KL mo s0.1 s0.2) 2786 [some (.ref b), some (.ref x), some (.ref mo), some (.ref out), some (.int i), none, none, none, none] [] := by
  unfold wp_law_57 at hw
  refine a_aload_1 (pc := 2786) C dL_law_2786 ?_
  refine l_callVd (pc := 2787) C hs [] (b := x) (ci := 0) (st := []) 5000 hw.1 (fun h n u hB => ct_X1_meanHeat l G x (lE mo) _ _ hw.2.2 h n u hB) (by decide) (by decide) rfl hw.2.1 q65 q1216 q1217 q1218 (lw_meth q1219) sg_X1_meanHeat (Nat.le_of_ble_eq_true rfl) dL_law_2787 (fun v2 σ1 hw => l_top (fun s1 es1 => ?_))
  have hw := hw s1 es1
  refine a_dstore_5 (pc := 2790) C dL_law_2790 (by decide) rfl ?_
  refine a_aload_2 (pc := 2792) C dL_law_2792 ?_
  refine l_callMd (pc := 2793) C hs [] (st := []) (fun h n u hV => ct_X6_meanHeat l G _ _ _ hw h n u hV) (by decide) (by decide) rfl q77 q2185 q2186 q2187 (lw_meth q2188) sg_X6_meanHeat (Nat.le_of_ble_eq_true rfl) dL_law_2793 (fun v4 μ1 hw => l_top (fun s3 es3 => ?_))
  have hw := hw s3 es3
  refine a_dstore_7 (pc := 2796) C dL_law_2796 (by decide) rfl ?_
  refine a_dload_5 (pc := 2798) C dL_law_2798 ?_
  refine a_dload_7 (pc := 2800) C dL_law_2800 ?_
  refine a_dcmp (pc := 2802) C dL_law_2802 ?_
  refine a_if_eq (pc := 2803) C 2824 dL_law_2803 (by decide) (fun c5 => ?_) (fun c5 => ?_)
  · have hw := hw.1 c5
    refine a_goto (pc := 2824) C 2827 dL_law_2824 (by decide) ?_
    exact a_weak (a_le_some (a_le_some (a_le_some (a_le_some (a_le_some (a_le_none (a_le_none (a_le_none (a_le_none a_le_nil))))))))) (hKx _ hw)
  · have hw := hw.2 c5
    refine a_dload_5 (pc := 2806) C dL_law_2806 ?_
    refine a_dload_5 (pc := 2808) C dL_law_2808 ?_
    refine a_dcmp (pc := 2810) C dL_law_2810 ?_
    refine a_if_eq (pc := 2811) C 2822 dL_law_2811 (by decide) (fun c6 => ?_) (fun c6 => ?_)
    · have hw := hw.1 c6
      refine a_iconst (pc := 2822) C dL_law_2822 ic_0 ?_
      exact False.elim hw
    · have hw := hw.2 c6
      refine a_dload_7 (pc := 2814) C dL_law_2814 ?_
      refine a_dload_7 (pc := 2816) C dL_law_2816 ?_
      refine a_dcmp (pc := 2818) C dL_law_2818 ?_
      refine a_if_ne (pc := 2819) C 2824 dL_law_2819 (by decide) (fun c7 => ?_) (fun c7 => ?_)
      · have hw := hw.1 c7
        refine a_goto (pc := 2824) C 2827 dL_law_2824 (by decide) ?_
        exact a_weak (a_le_some (a_le_some (a_le_some (a_le_some (a_le_some (a_le_none (a_le_none (a_le_none (a_le_none a_le_nil))))))))) (hKx _ hw)
      · have hw := hw.2 c7
        refine a_iconst (pc := 2822) C dL_law_2822 ic_0 ?_
        exact False.elim hw
