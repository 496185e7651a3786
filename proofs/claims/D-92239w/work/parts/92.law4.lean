/-! the law: its cases, by mklaw.py -/
set_option maxHeartbeats 4000000 in
set_option maxRecDepth 100000 in
theorem lc_0 {G : Gx} {X0 X1 : Xw} {σ τ : St} {k n i L b : Nat} {xs : Nat → Int32} (Γ : Ok G R_law code 4) (Λ : LK G X0 X1) (C : LC G b L xs) (hR : R σ τ) (hi : i + 7 ≤ L) (hk : k + 3 ≤ 603072 ∧ n + 2010 ≤ 7262314) (K : ∀ (ad : Nat → Nat) (σ' τ' : St), R σ' τ' → At (gX G (k + 3) (n + 2010) (LwP (xUp X0 ad) X1 τ')) 4 σ' (lvi i X0 X1 b) [] 2176) : At (gX G k n (LwP X0 X1 τ)) 4 σ (lvi i X0 X1 b) [] 280 := by
  obtain ⟨⟨r, σ'⟩, ⟨r', τ'⟩, e1, e2, e3, e4⟩ := s_row hR (xs (i + 1)) (xs (i + 2))
  dsimp only at e3 e4
  subst e3
  refine A_aload_n Γ dL_law_280 2 rfl ?_
  refine L_arg (m := 1) (j := 1) (X0 := X0) (X1 := X1) Γ C (by decide) (by omega) dL_law_281 dL_law_282 dL_law_283 dL_law_284 dL_law_285 ?_
  refine L_arg (m := 2) (j := 2) (X0 := X0) (X1 := X1) Γ C (by decide) (by omega) dL_law_286 dL_law_287 dL_law_288 dL_law_289 dL_law_290 ?_
  refine L_callE (As := [.int (xs (i + 1)), .int (xs (i + 2))]) (nn := 2) Γ Λ (fun X => mtX0_row (gl G) Λ.2.2.2.2.2.2.2.2.2 X e1) (lw_VW q301 q302 q303 q63 q304) (by decide +kernel) (by decide) hk rfl rfl (Nat.le_of_ble_eq_true rfl) dL_law_291 (fun ad => ?_)
  refine A_aload_n Γ dL_law_294 1 rfl ?_
  refine L_arg (m := 1) (j := 1) (X0 := X0) (X1 := X1) Γ C (by decide) (by omega) dL_law_295 dL_law_296 dL_law_297 dL_law_298 dL_law_299 ?_
  refine L_arg (m := 2) (j := 2) (X0 := X0) (X1 := X1) Γ C (by decide) (by omega) dL_law_300 dL_law_301 dL_law_302 dL_law_303 dL_law_304 ?_
  refine L_call1 (X0 := (xUp X0 ad)) (As := [.int (xs (i + 1)), .int (xs (i + 2))]) (nn := 2) Γ (Λ.up ad) (fun X => mtX1_row (gl G) X e2) (lw_V q1289 q1290 q1291 q64 q1292) (by decide +kernel) (by decide) hk rfl rfl (Nat.le_of_ble_eq_true rfl) dL_law_305 ?_
  refine A_icmp_eq (t := 2176) (x := r) (y := r) (G := gX G (k + 3) (n + 2010) (LwP (xUp X0 ad) X1 τ')) (st := []) Γ dL_law_308 (by decide) (fun _ => ?_) (fun w => absurd rfl w)
  exact K ad σ' τ' e4
set_option maxHeartbeats 4000000 in
set_option maxRecDepth 100000 in
theorem lc_1 {G : Gx} {X0 X1 : Xw} {σ τ : St} {k n i L b : Nat} {xs : Nat → Int32} (Γ : Ok G R_law code 4) (Λ : LK G X0 X1) (C : LC G b L xs) (hR : R σ τ) (hi : i + 7 ≤ L) (hk : k + 3 ≤ 603072 ∧ n + 2010 ≤ 7262314) (K : ∀ (ad : Nat → Nat) (σ' τ' : St), R σ' τ' → At (gX G (k + 3) (n + 2010) (LwP (xUp X0 ad) X1 τ')) 4 σ' (lvi i X0 X1 b) [] 2176) : At (gX G k n (LwP X0 X1 τ)) 4 σ (lvi i X0 X1 b) [] 313 := by
  obtain ⟨⟨r, σ'⟩, ⟨r', τ'⟩, e1, e2, e3, e4⟩ := s_lay hR (xs (i + 1)) (xs (i + 2)) (xs (i + 3))
  dsimp only at e3 e4
  subst e3
  refine A_aload_n Γ dL_law_313 2 rfl ?_
  refine L_arg (m := 1) (j := 1) (X0 := X0) (X1 := X1) Γ C (by decide) (by omega) dL_law_314 dL_law_315 dL_law_316 dL_law_317 dL_law_318 ?_
  refine L_arg (m := 2) (j := 2) (X0 := X0) (X1 := X1) Γ C (by decide) (by omega) dL_law_319 dL_law_320 dL_law_321 dL_law_322 dL_law_323 ?_
  refine L_arg (m := 3) (j := 3) (X0 := X0) (X1 := X1) Γ C (by decide) (by omega) dL_law_324 dL_law_325 dL_law_326 dL_law_327 dL_law_328 ?_
  refine L_callE (As := [.int (xs (i + 1)), .int (xs (i + 2)), .int (xs (i + 3))]) (nn := 3) Γ Λ (fun X => mtX0_lay (gl G) Λ.2.2.2.2.2.2.2.2.2 X e1) (lw_VW q401 q402 q403 q63 q404) (by decide +kernel) (by decide) hk rfl rfl (Nat.le_of_ble_eq_true rfl) dL_law_329 (fun ad => ?_)
  refine A_aload_n Γ dL_law_332 1 rfl ?_
  refine L_arg (m := 1) (j := 1) (X0 := X0) (X1 := X1) Γ C (by decide) (by omega) dL_law_333 dL_law_334 dL_law_335 dL_law_336 dL_law_337 ?_
  refine L_arg (m := 2) (j := 2) (X0 := X0) (X1 := X1) Γ C (by decide) (by omega) dL_law_338 dL_law_339 dL_law_340 dL_law_341 dL_law_342 ?_
  refine L_arg (m := 3) (j := 3) (X0 := X0) (X1 := X1) Γ C (by decide) (by omega) dL_law_343 dL_law_344 dL_law_345 dL_law_346 dL_law_347 ?_
  refine L_call1 (X0 := (xUp X0 ad)) (As := [.int (xs (i + 1)), .int (xs (i + 2)), .int (xs (i + 3))]) (nn := 3) Γ (Λ.up ad) (fun X => mtX1_lay (gl G) X e2) (lw_V q1303 q1304 q1305 q64 q1306) (by decide +kernel) (by decide) hk rfl rfl (Nat.le_of_ble_eq_true rfl) dL_law_348 ?_
  refine A_icmp_eq (t := 2176) (x := r) (y := r) (G := gX G (k + 3) (n + 2010) (LwP (xUp X0 ad) X1 τ')) (st := []) Γ dL_law_351 (by decide) (fun _ => ?_) (fun w => absurd rfl w)
  exact K ad σ' τ' e4
set_option maxHeartbeats 4000000 in
set_option maxRecDepth 100000 in
theorem lc_2 {G : Gx} {X0 X1 : Xw} {σ τ : St} {k n i L b : Nat} {xs : Nat → Int32} (Γ : Ok G R_law code 4) (Λ : LK G X0 X1) (C : LC G b L xs) (hR : R σ τ) (hi : i + 7 ≤ L) (hk : k + 3 ≤ 603072 ∧ n + 2010 ≤ 7262314) (K : ∀ (ad : Nat → Nat) (σ' τ' : St), R σ' τ' → At (gX G (k + 3) (n + 2010) (LwP (xUp X0 ad) X1 τ')) 4 σ' (lvi i X0 X1 b) [] 2176) : At (gX G k n (LwP X0 X1 τ)) 4 σ (lvi i X0 X1 b) [] 356 := by
  obtain ⟨⟨r, σ'⟩, ⟨r', τ'⟩, e1, e2, e3, e4⟩ := s_tear hR (xs (i + 1))
  dsimp only at e3 e4
  subst e3
  refine A_aload_n Γ dL_law_356 2 rfl ?_
  refine L_arg (m := 1) (j := 1) (X0 := X0) (X1 := X1) Γ C (by decide) (by omega) dL_law_357 dL_law_358 dL_law_359 dL_law_360 dL_law_361 ?_
  refine L_call0 (X0 := X0) (As := [.int (xs (i + 1))]) (nn := 1) Γ Λ (fun X => mtX0_tear (gl G) X e1) (lw_V q453 q454 q455 q63 q456) (by decide +kernel) (by decide) ⟨by omega, by omega⟩ rfl rfl (Nat.le_of_ble_eq_true rfl) dL_law_362 ?_
  refine A_aload_n Γ dL_law_365 1 rfl ?_
  refine L_arg (m := 1) (j := 1) (X0 := X0) (X1 := X1) Γ C (by decide) (by omega) dL_law_366 dL_law_367 dL_law_368 dL_law_369 dL_law_370 ?_
  refine L_call1 (X0 := X0) (As := [.int (xs (i + 1))]) (nn := 1) Γ Λ (fun X => mtX1_tear (gl G) X e2) (lw_V q1311 q1312 q1313 q64 q1314) (by decide +kernel) (by decide) ⟨by omega, by omega⟩ rfl rfl (Nat.le_of_ble_eq_true rfl) dL_law_371 ?_
  refine A_icmp_eq (t := 2176) (x := r) (y := r) (G := gX G (k) (n) (LwP X0 X1 τ')) (st := []) Γ dL_law_374 (by decide) (fun _ => ?_) (fun w => absurd rfl w)
  exact L_up (K (xad X0) σ' τ' e4)
set_option maxHeartbeats 4000000 in
set_option maxRecDepth 100000 in
theorem lc_4 {G : Gx} {X0 X1 : Xw} {σ τ : St} {k n i L b : Nat} {xs : Nat → Int32} (Γ : Ok G R_law code 4) (Λ : LK G X0 X1) (C : LC G b L xs) (hR : R σ τ) (hi : i + 7 ≤ L) (hk : k + 3 ≤ 603072 ∧ n + 2010 ≤ 7262314) (K : ∀ (ad : Nat → Nat) (σ' τ' : St), R σ' τ' → At (gX G (k + 3) (n + 2010) (LwP (xUp X0 ad) X1 τ')) 4 σ' (lvi i X0 X1 b) [] 2176) : At (gX G k n (LwP X0 X1 τ)) 4 σ (lvi i X0 X1 b) [] 442 := by
  obtain ⟨⟨r, σ'⟩, ⟨r', τ'⟩, e1, e2, e3, e4⟩ := s_text hR (xs (i + 1)) (xs (i + 2))
  dsimp only at e3 e4
  subst e3
  refine A_aload_n Γ dL_law_442 2 rfl ?_
  refine L_arg (m := 1) (j := 1) (X0 := X0) (X1 := X1) Γ C (by decide) (by omega) dL_law_443 dL_law_444 dL_law_445 dL_law_446 dL_law_447 ?_
  refine L_arg (m := 2) (j := 2) (X0 := X0) (X1 := X1) Γ C (by decide) (by omega) dL_law_448 dL_law_449 dL_law_450 dL_law_451 dL_law_452 ?_
  refine L_callE (As := [.int (xs (i + 1)), .int (xs (i + 2))]) (nn := 2) Γ Λ (fun X => mtX0_text (gl G) Λ.2.2.2.2.2.2.2.2.2 X e1) (lw_VW q482 q483 q484 q63 q485) (by decide +kernel) (by decide) hk rfl rfl (Nat.le_of_ble_eq_true rfl) dL_law_453 (fun ad => ?_)
  refine A_aload_n Γ dL_law_456 1 rfl ?_
  refine L_arg (m := 1) (j := 1) (X0 := X0) (X1 := X1) Γ C (by decide) (by omega) dL_law_457 dL_law_458 dL_law_459 dL_law_460 dL_law_461 ?_
  refine L_arg (m := 2) (j := 2) (X0 := X0) (X1 := X1) Γ C (by decide) (by omega) dL_law_462 dL_law_463 dL_law_464 dL_law_465 dL_law_466 ?_
  refine L_call1 (X0 := (xUp X0 ad)) (As := [.int (xs (i + 1)), .int (xs (i + 2))]) (nn := 2) Γ (Λ.up ad) (fun X => mtX1_text (gl G) X e2) (lw_V q1319 q1320 q1321 q64 q1322) (by decide +kernel) (by decide) hk rfl rfl (Nat.le_of_ble_eq_true rfl) dL_law_467 ?_
  refine A_icmp_eq (t := 2176) (x := r) (y := r) (G := gX G (k + 3) (n + 2010) (LwP (xUp X0 ad) X1 τ')) (st := []) Γ dL_law_470 (by decide) (fun _ => ?_) (fun w => absurd rfl w)
  exact K ad σ' τ' e4
set_option maxHeartbeats 4000000 in
set_option maxRecDepth 100000 in
theorem lc_5 {G : Gx} {X0 X1 : Xw} {σ τ : St} {k n i L b : Nat} {xs : Nat → Int32} (Γ : Ok G R_law code 4) (Λ : LK G X0 X1) (C : LC G b L xs) (hR : R σ τ) (hi : i + 7 ≤ L) (hk : k + 3 ≤ 603072 ∧ n + 2010 ≤ 7262314) (K : ∀ (ad : Nat → Nat) (σ' τ' : St), R σ' τ' → At (gX G (k + 3) (n + 2010) (LwP (xUp X0 ad) X1 τ')) 4 σ' (lvi i X0 X1 b) [] 2176) : At (gX G k n (LwP X0 X1 τ)) 4 σ (lvi i X0 X1 b) [] 475 := by
  obtain ⟨⟨r, σ'⟩, ⟨r', τ'⟩, e1, e2, e3, e4⟩ := s_put hR (xs (i + 1)) (xs (i + 2)) (xs (i + 3))
  dsimp only at e3 e4
  subst e3
  refine A_aload_n Γ dL_law_475 2 rfl ?_
  refine L_arg (m := 1) (j := 1) (X0 := X0) (X1 := X1) Γ C (by decide) (by omega) dL_law_476 dL_law_477 dL_law_478 dL_law_479 dL_law_480 ?_
  refine L_arg (m := 2) (j := 2) (X0 := X0) (X1 := X1) Γ C (by decide) (by omega) dL_law_481 dL_law_482 dL_law_483 dL_law_484 dL_law_485 ?_
  refine L_arg (m := 3) (j := 3) (X0 := X0) (X1 := X1) Γ C (by decide) (by omega) dL_law_486 dL_law_487 dL_law_488 dL_law_489 dL_law_490 ?_
  refine L_callE (As := [.int (xs (i + 1)), .int (xs (i + 2)), .int (xs (i + 3))]) (nn := 3) Γ Λ (fun X => mtX0_put (gl G) Λ.2.2.2.2.2.2.2.2.2 X e1) (lw_VW q489 q490 q491 q63 q492) (by decide +kernel) (by decide) hk rfl rfl (Nat.le_of_ble_eq_true rfl) dL_law_491 (fun ad => ?_)
  refine A_aload_n Γ dL_law_494 1 rfl ?_
  refine L_arg (m := 1) (j := 1) (X0 := X0) (X1 := X1) Γ C (by decide) (by omega) dL_law_495 dL_law_496 dL_law_497 dL_law_498 dL_law_499 ?_
  refine L_arg (m := 2) (j := 2) (X0 := X0) (X1 := X1) Γ C (by decide) (by omega) dL_law_500 dL_law_501 dL_law_502 dL_law_503 dL_law_504 ?_
  refine L_arg (m := 3) (j := 3) (X0 := X0) (X1 := X1) Γ C (by decide) (by omega) dL_law_505 dL_law_506 dL_law_507 dL_law_508 dL_law_509 ?_
  refine L_call1 (X0 := (xUp X0 ad)) (As := [.int (xs (i + 1)), .int (xs (i + 2)), .int (xs (i + 3))]) (nn := 3) Γ (Λ.up ad) (fun X => mtX1_put (gl G) X e2) (lw_V q1326 q1327 q1328 q64 q1329) (by decide +kernel) (by decide) hk rfl rfl (Nat.le_of_ble_eq_true rfl) dL_law_510 ?_
  refine A_icmp_eq (t := 2176) (x := r) (y := r) (G := gX G (k + 3) (n + 2010) (LwP (xUp X0 ad) X1 τ')) (st := []) Γ dL_law_513 (by decide) (fun _ => ?_) (fun w => absurd rfl w)
  exact K ad σ' τ' e4
set_option maxHeartbeats 4000000 in
set_option maxRecDepth 100000 in
theorem lc_6 {G : Gx} {X0 X1 : Xw} {σ τ : St} {k n i L b : Nat} {xs : Nat → Int32} (Γ : Ok G R_law code 4) (Λ : LK G X0 X1) (C : LC G b L xs) (hR : R σ τ) (hi : i + 7 ≤ L) (hk : k + 3 ≤ 603072 ∧ n + 2010 ≤ 7262314) (K : ∀ (ad : Nat → Nat) (σ' τ' : St), R σ' τ' → At (gX G (k + 3) (n + 2010) (LwP (xUp X0 ad) X1 τ')) 4 σ' (lvi i X0 X1 b) [] 2176) : At (gX G k n (LwP X0 X1 τ)) 4 σ (lvi i X0 X1 b) [] 518 := by
  obtain ⟨⟨r, σ'⟩, ⟨r', τ'⟩, e1, e2, e3, e4⟩ := s_fault hR (xs (i + 1))
  dsimp only at e3 e4
  subst e3
  refine A_aload_n Γ dL_law_518 2 rfl ?_
  refine L_arg (m := 1) (j := 1) (X0 := X0) (X1 := X1) Γ C (by decide) (by omega) dL_law_519 dL_law_520 dL_law_521 dL_law_522 dL_law_523 ?_
  refine L_call0 (X0 := X0) (As := [.int (xs (i + 1))]) (nn := 1) Γ Λ (fun X => mtX0_fault (gl G) X e1) (lw_V q493 q494 q495 q63 q496) (by decide +kernel) (by decide) ⟨by omega, by omega⟩ rfl rfl (Nat.le_of_ble_eq_true rfl) dL_law_524 ?_
  refine A_aload_n Γ dL_law_527 1 rfl ?_
  refine L_arg (m := 1) (j := 1) (X0 := X0) (X1 := X1) Γ C (by decide) (by omega) dL_law_528 dL_law_529 dL_law_530 dL_law_531 dL_law_532 ?_
  refine L_call1 (X0 := X0) (As := [.int (xs (i + 1))]) (nn := 1) Γ Λ (fun X => mtX1_fault (gl G) X e2) (lw_V q1473 q1474 q1475 q64 q1476) (by decide +kernel) (by decide) ⟨by omega, by omega⟩ rfl rfl (Nat.le_of_ble_eq_true rfl) dL_law_533 ?_
  refine A_icmp_eq (t := 2176) (x := r) (y := r) (G := gX G (k) (n) (LwP X0 X1 τ')) (st := []) Γ dL_law_536 (by decide) (fun _ => ?_) (fun w => absurd rfl w)
  exact L_up (K (xad X0) σ' τ' e4)
set_option maxHeartbeats 4000000 in
set_option maxRecDepth 100000 in
theorem lc_7 {G : Gx} {X0 X1 : Xw} {σ τ : St} {k n i L b : Nat} {xs : Nat → Int32} (Γ : Ok G R_law code 4) (Λ : LK G X0 X1) (C : LC G b L xs) (hR : R σ τ) (hi : i + 7 ≤ L) (hk : k + 3 ≤ 603072 ∧ n + 2010 ≤ 7262314) (K : ∀ (ad : Nat → Nat) (σ' τ' : St), R σ' τ' → At (gX G (k + 3) (n + 2010) (LwP (xUp X0 ad) X1 τ')) 4 σ' (lvi i X0 X1 b) [] 2176) : At (gX G k n (LwP X0 X1 τ)) 4 σ (lvi i X0 X1 b) [] 541 := by
  obtain ⟨⟨r, σ'⟩, ⟨r', τ'⟩, e1, e2, e3, e4⟩ := s_later hR (xs (i + 1))
  dsimp only at e3 e4
  subst e3
  refine A_aload_n Γ dL_law_541 2 rfl ?_
  refine L_arg (m := 1) (j := 1) (X0 := X0) (X1 := X1) Γ C (by decide) (by omega) dL_law_542 dL_law_543 dL_law_544 dL_law_545 dL_law_546 ?_
  refine L_call0 (X0 := X0) (As := [.int (xs (i + 1))]) (nn := 1) Γ Λ (fun X => mtX0_later (gl G) X e1) (lw_V q507 q508 q509 q63 q510) (by decide +kernel) (by decide) ⟨by omega, by omega⟩ rfl rfl (Nat.le_of_ble_eq_true rfl) dL_law_547 ?_
  refine A_aload_n Γ dL_law_550 1 rfl ?_
  refine L_arg (m := 1) (j := 1) (X0 := X0) (X1 := X1) Γ C (by decide) (by omega) dL_law_551 dL_law_552 dL_law_553 dL_law_554 dL_law_555 ?_
  refine L_call1 (X0 := X0) (As := [.int (xs (i + 1))]) (nn := 1) Γ Λ (fun X => mtX1_later (gl G) X e2) (lw_V q1334 q1335 q1336 q64 q1337) (by decide +kernel) (by decide) ⟨by omega, by omega⟩ rfl rfl (Nat.le_of_ble_eq_true rfl) dL_law_556 ?_
  refine A_icmp_eq (t := 2176) (x := r) (y := r) (G := gX G (k) (n) (LwP X0 X1 τ')) (st := []) Γ dL_law_559 (by decide) (fun _ => ?_) (fun w => absurd rfl w)
  exact L_up (K (xad X0) σ' τ' e4)
set_option maxHeartbeats 4000000 in
set_option maxRecDepth 100000 in
theorem lc_8 {G : Gx} {X0 X1 : Xw} {σ τ : St} {k n i L b : Nat} {xs : Nat → Int32} (Γ : Ok G R_law code 4) (Λ : LK G X0 X1) (C : LC G b L xs) (hR : R σ τ) (hi : i + 7 ≤ L) (hk : k + 3 ≤ 603072 ∧ n + 2010 ≤ 7262314) (K : ∀ (ad : Nat → Nat) (σ' τ' : St), R σ' τ' → At (gX G (k + 3) (n + 2010) (LwP (xUp X0 ad) X1 τ')) 4 σ' (lvi i X0 X1 b) [] 2176) : At (gX G k n (LwP X0 X1 τ)) 4 σ (lvi i X0 X1 b) [] 564 := by
  obtain ⟨⟨r, σ'⟩, ⟨r', τ'⟩, e1, e2, e3, e4⟩ := s_way hR (xs (i + 1)) (xs (i + 2)) (xs (i + 3)) (xs (i + 4))
  dsimp only at e3 e4
  subst e3
  refine A_aload_n Γ dL_law_564 2 rfl ?_
  refine L_arg (m := 1) (j := 1) (X0 := X0) (X1 := X1) Γ C (by decide) (by omega) dL_law_565 dL_law_566 dL_law_567 dL_law_568 dL_law_569 ?_
  refine L_arg (m := 2) (j := 2) (X0 := X0) (X1 := X1) Γ C (by decide) (by omega) dL_law_570 dL_law_571 dL_law_572 dL_law_573 dL_law_574 ?_
  refine L_arg (m := 3) (j := 3) (X0 := X0) (X1 := X1) Γ C (by decide) (by omega) dL_law_575 dL_law_576 dL_law_577 dL_law_578 dL_law_579 ?_
  refine L_arg (m := 4) (j := 4) (X0 := X0) (X1 := X1) Γ C (by decide) (by omega) dL_law_580 dL_law_581 dL_law_582 dL_law_583 dL_law_584 ?_
  refine L_call0 (X0 := X0) (As := [.int (xs (i + 1)), .int (xs (i + 2)), .int (xs (i + 3)), .int (xs (i + 4))]) (nn := 4) Γ Λ (fun X => mtX0_way (gl G) X e1) (lw_V q512 q513 q514 q63 q515) (by decide +kernel) (by decide) ⟨by omega, by omega⟩ rfl rfl (Nat.le_of_ble_eq_true rfl) dL_law_585 ?_
  refine A_aload_n Γ dL_law_588 1 rfl ?_
  refine L_arg (m := 1) (j := 1) (X0 := X0) (X1 := X1) Γ C (by decide) (by omega) dL_law_589 dL_law_590 dL_law_591 dL_law_592 dL_law_593 ?_
  refine L_arg (m := 2) (j := 2) (X0 := X0) (X1 := X1) Γ C (by decide) (by omega) dL_law_594 dL_law_595 dL_law_596 dL_law_597 dL_law_598 ?_
  refine L_arg (m := 3) (j := 3) (X0 := X0) (X1 := X1) Γ C (by decide) (by omega) dL_law_599 dL_law_600 dL_law_601 dL_law_602 dL_law_603 ?_
  refine L_arg (m := 4) (j := 4) (X0 := X0) (X1 := X1) Γ C (by decide) (by omega) dL_law_604 dL_law_605 dL_law_606 dL_law_607 dL_law_608 ?_
  refine L_call1 (X0 := X0) (As := [.int (xs (i + 1)), .int (xs (i + 2)), .int (xs (i + 3)), .int (xs (i + 4))]) (nn := 4) Γ Λ (fun X => mtX1_way (gl G) X e2) (lw_V q1339 q1340 q1341 q64 q1342) (by decide +kernel) (by decide) ⟨by omega, by omega⟩ rfl rfl (Nat.le_of_ble_eq_true rfl) dL_law_609 ?_
  refine A_icmp_eq (t := 2176) (x := r) (y := r) (G := gX G (k) (n) (LwP X0 X1 τ')) (st := []) Γ dL_law_612 (by decide) (fun _ => ?_) (fun w => absurd rfl w)
  exact L_up (K (xad X0) σ' τ' e4)
set_option maxHeartbeats 4000000 in
set_option maxRecDepth 100000 in
theorem lc_9 {G : Gx} {X0 X1 : Xw} {σ τ : St} {k n i L b : Nat} {xs : Nat → Int32} (Γ : Ok G R_law code 4) (Λ : LK G X0 X1) (C : LC G b L xs) (hR : R σ τ) (hi : i + 7 ≤ L) (hk : k + 3 ≤ 603072 ∧ n + 2010 ≤ 7262314) (K : ∀ (ad : Nat → Nat) (σ' τ' : St), R σ' τ' → At (gX G (k + 3) (n + 2010) (LwP (xUp X0 ad) X1 τ')) 4 σ' (lvi i X0 X1 b) [] 2176) : At (gX G k n (LwP X0 X1 τ)) 4 σ (lvi i X0 X1 b) [] 617 := by
  obtain ⟨⟨r, σ'⟩, ⟨r', τ'⟩, e1, e2, e3, e4⟩ := s_ferry hR (xs (i + 1)) (xs (i + 2)) (xs (i + 3)) (xs (i + 4))
  dsimp only at e3 e4
  subst e3
  refine A_aload_n Γ dL_law_617 2 rfl ?_
  refine L_arg (m := 1) (j := 1) (X0 := X0) (X1 := X1) Γ C (by decide) (by omega) dL_law_618 dL_law_619 dL_law_620 dL_law_621 dL_law_622 ?_
  refine L_arg (m := 2) (j := 2) (X0 := X0) (X1 := X1) Γ C (by decide) (by omega) dL_law_623 dL_law_624 dL_law_625 dL_law_626 dL_law_627 ?_
  refine L_arg (m := 3) (j := 3) (X0 := X0) (X1 := X1) Γ C (by decide) (by omega) dL_law_628 dL_law_629 dL_law_630 dL_law_631 dL_law_632 ?_
  refine L_arg (m := 4) (j := 4) (X0 := X0) (X1 := X1) Γ C (by decide) (by omega) dL_law_633 dL_law_634 dL_law_635 dL_law_636 dL_law_637 ?_
  refine L_call0 (X0 := X0) (As := [.int (xs (i + 1)), .int (xs (i + 2)), .int (xs (i + 3)), .int (xs (i + 4))]) (nn := 4) Γ Λ (fun X => mtX0_ferry (gl G) X e1) (lw_V q522 q523 q524 q63 q525) (by decide +kernel) (by decide) ⟨by omega, by omega⟩ rfl rfl (Nat.le_of_ble_eq_true rfl) dL_law_638 ?_
  refine A_aload_n Γ dL_law_641 1 rfl ?_
  refine L_arg (m := 1) (j := 1) (X0 := X0) (X1 := X1) Γ C (by decide) (by omega) dL_law_642 dL_law_643 dL_law_644 dL_law_645 dL_law_646 ?_
  refine L_arg (m := 2) (j := 2) (X0 := X0) (X1 := X1) Γ C (by decide) (by omega) dL_law_647 dL_law_648 dL_law_649 dL_law_650 dL_law_651 ?_
  refine L_arg (m := 3) (j := 3) (X0 := X0) (X1 := X1) Γ C (by decide) (by omega) dL_law_652 dL_law_653 dL_law_654 dL_law_655 dL_law_656 ?_
  refine L_arg (m := 4) (j := 4) (X0 := X0) (X1 := X1) Γ C (by decide) (by omega) dL_law_657 dL_law_658 dL_law_659 dL_law_660 dL_law_661 ?_
  refine L_call1 (X0 := X0) (As := [.int (xs (i + 1)), .int (xs (i + 2)), .int (xs (i + 3)), .int (xs (i + 4))]) (nn := 4) Γ Λ (fun X => mtX1_ferry (gl G) X e2) (lw_V q1350 q1351 q1352 q64 q1353) (by decide +kernel) (by decide) ⟨by omega, by omega⟩ rfl rfl (Nat.le_of_ble_eq_true rfl) dL_law_662 ?_
  refine A_icmp_eq (t := 2176) (x := r) (y := r) (G := gX G (k) (n) (LwP X0 X1 τ')) (st := []) Γ dL_law_665 (by decide) (fun _ => ?_) (fun w => absurd rfl w)
  exact L_up (K (xad X0) σ' τ' e4)
set_option maxHeartbeats 4000000 in
set_option maxRecDepth 100000 in
theorem lc_10 {G : Gx} {X0 X1 : Xw} {σ τ : St} {k n i L b : Nat} {xs : Nat → Int32} (Γ : Ok G R_law code 4) (Λ : LK G X0 X1) (C : LC G b L xs) (hR : R σ τ) (hi : i + 7 ≤ L) (hk : k + 3 ≤ 603072 ∧ n + 2010 ≤ 7262314) (K : ∀ (ad : Nat → Nat) (σ' τ' : St), R σ' τ' → At (gX G (k + 3) (n + 2010) (LwP (xUp X0 ad) X1 τ')) 4 σ' (lvi i X0 X1 b) [] 2176) : At (gX G k n (LwP X0 X1 τ)) 4 σ (lvi i X0 X1 b) [] 670 := by
  obtain ⟨⟨r, σ'⟩, ⟨r', τ'⟩, e1, e2, e3, e4⟩ := s_comes hR (xs (i + 1)) (xs (i + 2)) (xs (i + 3))
  dsimp only at e3 e4
  subst e3
  refine A_aload_n Γ dL_law_670 2 rfl ?_
  refine L_arg (m := 1) (j := 1) (X0 := X0) (X1 := X1) Γ C (by decide) (by omega) dL_law_671 dL_law_672 dL_law_673 dL_law_674 dL_law_675 ?_
  refine L_arg (m := 2) (j := 2) (X0 := X0) (X1 := X1) Γ C (by decide) (by omega) dL_law_676 dL_law_677 dL_law_678 dL_law_679 dL_law_680 ?_
  refine L_arg (m := 3) (j := 3) (X0 := X0) (X1 := X1) Γ C (by decide) (by omega) dL_law_681 dL_law_682 dL_law_683 dL_law_684 dL_law_685 ?_
  refine L_call0 (X0 := X0) (As := [.int (xs (i + 1)), .int (xs (i + 2)), .int (xs (i + 3))]) (nn := 3) Γ Λ (fun X => mtX0_comes (gl G) X e1) (lw_V q526 q527 q528 q63 q529) (by decide +kernel) (by decide) ⟨by omega, by omega⟩ rfl rfl (Nat.le_of_ble_eq_true rfl) dL_law_686 ?_
  refine A_aload_n Γ dL_law_689 1 rfl ?_
  refine L_arg (m := 1) (j := 1) (X0 := X0) (X1 := X1) Γ C (by decide) (by omega) dL_law_690 dL_law_691 dL_law_692 dL_law_693 dL_law_694 ?_
  refine L_arg (m := 2) (j := 2) (X0 := X0) (X1 := X1) Γ C (by decide) (by omega) dL_law_695 dL_law_696 dL_law_697 dL_law_698 dL_law_699 ?_
  refine L_arg (m := 3) (j := 3) (X0 := X0) (X1 := X1) Γ C (by decide) (by omega) dL_law_700 dL_law_701 dL_law_702 dL_law_703 dL_law_704 ?_
  refine L_call1 (X0 := X0) (As := [.int (xs (i + 1)), .int (xs (i + 2)), .int (xs (i + 3))]) (nn := 3) Γ Λ (fun X => mtX1_comes (gl G) X e2) (lw_V q1354 q1355 q1356 q64 q1357) (by decide +kernel) (by decide) ⟨by omega, by omega⟩ rfl rfl (Nat.le_of_ble_eq_true rfl) dL_law_705 ?_
  refine A_icmp_eq (t := 2176) (x := r) (y := r) (G := gX G (k) (n) (LwP X0 X1 τ')) (st := []) Γ dL_law_708 (by decide) (fun _ => ?_) (fun w => absurd rfl w)
  exact L_up (K (xad X0) σ' τ' e4)
set_option maxHeartbeats 4000000 in
set_option maxRecDepth 100000 in
theorem lc_11 {G : Gx} {X0 X1 : Xw} {σ τ : St} {k n i L b : Nat} {xs : Nat → Int32} (Γ : Ok G R_law code 4) (Λ : LK G X0 X1) (C : LC G b L xs) (hR : R σ τ) (hi : i + 7 ≤ L) (hk : k + 3 ≤ 603072 ∧ n + 2010 ≤ 7262314) (K : ∀ (ad : Nat → Nat) (σ' τ' : St), R σ' τ' → At (gX G (k + 3) (n + 2010) (LwP (xUp X0 ad) X1 τ')) 4 σ' (lvi i X0 X1 b) [] 2176) : At (gX G k n (LwP X0 X1 τ)) 4 σ (lvi i X0 X1 b) [] 713 := by
  obtain ⟨⟨r, σ'⟩, ⟨r', τ'⟩, e1, e2, e3, e4⟩ := s_toll hR (xs (i + 1)) (xs (i + 2))
  dsimp only at e3 e4
  subst e3
  refine A_aload_n Γ dL_law_713 2 rfl ?_
  refine L_arg (m := 1) (j := 1) (X0 := X0) (X1 := X1) Γ C (by decide) (by omega) dL_law_714 dL_law_715 dL_law_716 dL_law_717 dL_law_718 ?_
  refine L_arg (m := 2) (j := 2) (X0 := X0) (X1 := X1) Γ C (by decide) (by omega) dL_law_719 dL_law_720 dL_law_721 dL_law_722 dL_law_723 ?_
  refine L_call0 (X0 := X0) (As := [.int (xs (i + 1)), .int (xs (i + 2))]) (nn := 2) Γ Λ (fun X => mtX0_toll (gl G) X e1) (lw_V q548 q549 q550 q63 q551) (by decide +kernel) (by decide) ⟨by omega, by omega⟩ rfl rfl (Nat.le_of_ble_eq_true rfl) dL_law_724 ?_
  refine A_aload_n Γ dL_law_727 1 rfl ?_
  refine L_arg (m := 1) (j := 1) (X0 := X0) (X1 := X1) Γ C (by decide) (by omega) dL_law_728 dL_law_729 dL_law_730 dL_law_731 dL_law_732 ?_
  refine L_arg (m := 2) (j := 2) (X0 := X0) (X1 := X1) Γ C (by decide) (by omega) dL_law_733 dL_law_734 dL_law_735 dL_law_736 dL_law_737 ?_
  refine L_call1 (X0 := X0) (As := [.int (xs (i + 1)), .int (xs (i + 2))]) (nn := 2) Γ Λ (fun X => mtX1_toll (gl G) X e2) (lw_V q1367 q1368 q1369 q64 q1370) (by decide +kernel) (by decide) ⟨by omega, by omega⟩ rfl rfl (Nat.le_of_ble_eq_true rfl) dL_law_738 ?_
  refine A_icmp_eq (t := 2176) (x := r) (y := r) (G := gX G (k) (n) (LwP X0 X1 τ')) (st := []) Γ dL_law_741 (by decide) (fun _ => ?_) (fun w => absurd rfl w)
  exact L_up (K (xad X0) σ' τ' e4)
set_option maxHeartbeats 4000000 in
set_option maxRecDepth 100000 in
theorem lc_12 {G : Gx} {X0 X1 : Xw} {σ τ : St} {k n i L b : Nat} {xs : Nat → Int32} (Γ : Ok G R_law code 4) (Λ : LK G X0 X1) (C : LC G b L xs) (hR : R σ τ) (hi : i + 7 ≤ L) (hk : k + 3 ≤ 603072 ∧ n + 2010 ≤ 7262314) (K : ∀ (ad : Nat → Nat) (σ' τ' : St), R σ' τ' → At (gX G (k + 3) (n + 2010) (LwP (xUp X0 ad) X1 τ')) 4 σ' (lvi i X0 X1 b) [] 2176) : At (gX G k n (LwP X0 X1 τ)) 4 σ (lvi i X0 X1 b) [] 746 := by
  obtain ⟨⟨r, σ'⟩, ⟨r', τ'⟩, e1, e2, e3, e4⟩ := s_trailer hR (xs (i + 1)) (xs (i + 2)) (xs (i + 3))
  dsimp only at e3 e4
  subst e3
  refine A_aload_n Γ dL_law_746 2 rfl ?_
  refine L_arg (m := 1) (j := 1) (X0 := X0) (X1 := X1) Γ C (by decide) (by omega) dL_law_747 dL_law_748 dL_law_749 dL_law_750 dL_law_751 ?_
  refine L_arg (m := 2) (j := 2) (X0 := X0) (X1 := X1) Γ C (by decide) (by omega) dL_law_752 dL_law_753 dL_law_754 dL_law_755 dL_law_756 ?_
  refine L_arg (m := 3) (j := 3) (X0 := X0) (X1 := X1) Γ C (by decide) (by omega) dL_law_757 dL_law_758 dL_law_759 dL_law_760 dL_law_761 ?_
  refine L_callN (As := [.int (xs (i + 1)), .int (xs (i + 2)), .int (xs (i + 3))]) (nn := 3) Γ Λ (fun X => mtX0_trailer (gl G) X e1) (lw_V q552 q553 q554 q63 q555) (by decide +kernel) (by decide) hk rfl rfl (Nat.le_of_ble_eq_true rfl) dL_law_762 (fun ad => ?_)
  refine A_aload_n Γ dL_law_765 1 rfl ?_
  refine L_arg (m := 1) (j := 1) (X0 := X0) (X1 := X1) Γ C (by decide) (by omega) dL_law_766 dL_law_767 dL_law_768 dL_law_769 dL_law_770 ?_
  refine L_arg (m := 2) (j := 2) (X0 := X0) (X1 := X1) Γ C (by decide) (by omega) dL_law_771 dL_law_772 dL_law_773 dL_law_774 dL_law_775 ?_
  refine L_arg (m := 3) (j := 3) (X0 := X0) (X1 := X1) Γ C (by decide) (by omega) dL_law_776 dL_law_777 dL_law_778 dL_law_779 dL_law_780 ?_
  refine L_call1 (X0 := (xUp X0 ad)) (As := [.int (xs (i + 1)), .int (xs (i + 2)), .int (xs (i + 3))]) (nn := 3) Γ (Λ.up ad) (fun X => mtX1_trailer (gl G) X e2) (lw_V q1371 q1372 q1373 q64 q1374) (by decide +kernel) (by decide) hk rfl rfl (Nat.le_of_ble_eq_true rfl) dL_law_781 ?_
  refine A_icmp_eq (t := 2176) (x := r) (y := r) (G := gX G (k + 3) (n + 2010) (LwP (xUp X0 ad) X1 τ')) (st := []) Γ dL_law_784 (by decide) (fun _ => ?_) (fun w => absurd rfl w)
  exact K ad σ' τ' e4
set_option maxHeartbeats 4000000 in
set_option maxRecDepth 100000 in
theorem lc_13 {G : Gx} {X0 X1 : Xw} {σ τ : St} {k n i L b : Nat} {xs : Nat → Int32} (Γ : Ok G R_law code 4) (Λ : LK G X0 X1) (C : LC G b L xs) (hR : R σ τ) (hi : i + 7 ≤ L) (hk : k + 3 ≤ 603072 ∧ n + 2010 ≤ 7262314) (K : ∀ (ad : Nat → Nat) (σ' τ' : St), R σ' τ' → At (gX G (k + 3) (n + 2010) (LwP (xUp X0 ad) X1 τ')) 4 σ' (lvi i X0 X1 b) [] 2176) : At (gX G k n (LwP X0 X1 τ)) 4 σ (lvi i X0 X1 b) [] 789 := by
  obtain ⟨⟨r, σ'⟩, ⟨r', τ'⟩, e1, e2, e3, e4⟩ := s_told hR (xs (i + 1)) (xs (i + 2))
  dsimp only at e3 e4
  subst e3
  refine A_aload_n Γ dL_law_789 2 rfl ?_
  refine L_arg (m := 1) (j := 1) (X0 := X0) (X1 := X1) Γ C (by decide) (by omega) dL_law_790 dL_law_791 dL_law_792 dL_law_793 dL_law_794 ?_
  refine L_arg (m := 2) (j := 2) (X0 := X0) (X1 := X1) Γ C (by decide) (by omega) dL_law_795 dL_law_796 dL_law_797 dL_law_798 dL_law_799 ?_
  refine L_call0 (X0 := X0) (As := [.int (xs (i + 1)), .int (xs (i + 2))]) (nn := 2) Γ Λ (fun X => mtX0_told (gl G) X e1) (lw_V q683 q684 q685 q63 q686) (by decide +kernel) (by decide) ⟨by omega, by omega⟩ rfl rfl (Nat.le_of_ble_eq_true rfl) dL_law_800 ?_
  refine A_aload_n Γ dL_law_803 1 rfl ?_
  refine L_arg (m := 1) (j := 1) (X0 := X0) (X1 := X1) Γ C (by decide) (by omega) dL_law_804 dL_law_805 dL_law_806 dL_law_807 dL_law_808 ?_
  refine L_arg (m := 2) (j := 2) (X0 := X0) (X1 := X1) Γ C (by decide) (by omega) dL_law_809 dL_law_810 dL_law_811 dL_law_812 dL_law_813 ?_
  refine L_call1 (X0 := X0) (As := [.int (xs (i + 1)), .int (xs (i + 2))]) (nn := 2) Γ Λ (fun X => mtX1_told (gl G) X e2) (lw_V q1383 q1384 q1385 q64 q1386) (by decide +kernel) (by decide) ⟨by omega, by omega⟩ rfl rfl (Nat.le_of_ble_eq_true rfl) dL_law_814 ?_
  refine A_icmp_eq (t := 2176) (x := r) (y := r) (G := gX G (k) (n) (LwP X0 X1 τ')) (st := []) Γ dL_law_817 (by decide) (fun _ => ?_) (fun w => absurd rfl w)
  exact L_up (K (xad X0) σ' τ' e4)
set_option maxHeartbeats 4000000 in
set_option maxRecDepth 100000 in
theorem lc_14 {G : Gx} {X0 X1 : Xw} {σ τ : St} {k n i L b : Nat} {xs : Nat → Int32} (Γ : Ok G R_law code 4) (Λ : LK G X0 X1) (C : LC G b L xs) (hR : R σ τ) (hi : i + 7 ≤ L) (hk : k + 3 ≤ 603072 ∧ n + 2010 ≤ 7262314) (K : ∀ (ad : Nat → Nat) (σ' τ' : St), R σ' τ' → At (gX G (k + 3) (n + 2010) (LwP (xUp X0 ad) X1 τ')) 4 σ' (lvi i X0 X1 b) [] 2176) : At (gX G k n (LwP X0 X1 τ)) 4 σ (lvi i X0 X1 b) [] 822 := by
  obtain ⟨⟨r, σ'⟩, ⟨r', τ'⟩, e1, e2, e3, e4⟩ := s_mark hR (xs (i + 1)) (xs (i + 2))
  dsimp only at e3 e4
  subst e3
  refine A_aload_n Γ dL_law_822 2 rfl ?_
  refine L_arg (m := 1) (j := 1) (X0 := X0) (X1 := X1) Γ C (by decide) (by omega) dL_law_823 dL_law_824 dL_law_825 dL_law_826 dL_law_827 ?_
  refine L_arg (m := 2) (j := 2) (X0 := X0) (X1 := X1) Γ C (by decide) (by omega) dL_law_828 dL_law_829 dL_law_830 dL_law_831 dL_law_832 ?_
  refine L_callE (As := [.int (xs (i + 1)), .int (xs (i + 2))]) (nn := 2) Γ Λ (fun X => mtX0_mark (gl G) Λ.2.2.2.2.2.2.2.2.2 X e1) (lw_VW q711 q712 q713 q63 q714) (by decide +kernel) (by decide) hk rfl rfl (Nat.le_of_ble_eq_true rfl) dL_law_833 (fun ad => ?_)
  refine A_aload_n Γ dL_law_836 1 rfl ?_
  refine L_arg (m := 1) (j := 1) (X0 := X0) (X1 := X1) Γ C (by decide) (by omega) dL_law_837 dL_law_838 dL_law_839 dL_law_840 dL_law_841 ?_
  refine L_arg (m := 2) (j := 2) (X0 := X0) (X1 := X1) Γ C (by decide) (by omega) dL_law_842 dL_law_843 dL_law_844 dL_law_845 dL_law_846 ?_
  refine L_call1 (X0 := (xUp X0 ad)) (As := [.int (xs (i + 1)), .int (xs (i + 2))]) (nn := 2) Γ (Λ.up ad) (fun X => mtX1_mark (gl G) X e2) (lw_V q1399 q1400 q1401 q64 q1402) (by decide +kernel) (by decide) hk rfl rfl (Nat.le_of_ble_eq_true rfl) dL_law_847 ?_
  refine A_icmp_eq (t := 2176) (x := r) (y := r) (G := gX G (k + 3) (n + 2010) (LwP (xUp X0 ad) X1 τ')) (st := []) Γ dL_law_850 (by decide) (fun _ => ?_) (fun w => absurd rfl w)
  exact K ad σ' τ' e4
set_option maxHeartbeats 4000000 in
set_option maxRecDepth 100000 in
theorem lc_15 {G : Gx} {X0 X1 : Xw} {σ τ : St} {k n i L b : Nat} {xs : Nat → Int32} (Γ : Ok G R_law code 4) (Λ : LK G X0 X1) (C : LC G b L xs) (hR : R σ τ) (hi : i + 7 ≤ L) (hk : k + 3 ≤ 603072 ∧ n + 2010 ≤ 7262314) (K : ∀ (ad : Nat → Nat) (σ' τ' : St), R σ' τ' → At (gX G (k + 3) (n + 2010) (LwP (xUp X0 ad) X1 τ')) 4 σ' (lvi i X0 X1 b) [] 2176) : At (gX G k n (LwP X0 X1 τ)) 4 σ (lvi i X0 X1 b) [] 855 := by
  obtain ⟨⟨r, σ'⟩, ⟨r', τ'⟩, e1, e2, e3, e4⟩ := s_limit hR (xs (i + 1)) (xs (i + 2))
  dsimp only at e3 e4
  subst e3
  refine A_aload_n Γ dL_law_855 2 rfl ?_
  refine L_arg (m := 1) (j := 1) (X0 := X0) (X1 := X1) Γ C (by decide) (by omega) dL_law_856 dL_law_857 dL_law_858 dL_law_859 dL_law_860 ?_
  refine L_arg (m := 2) (j := 2) (X0 := X0) (X1 := X1) Γ C (by decide) (by omega) dL_law_861 dL_law_862 dL_law_863 dL_law_864 dL_law_865 ?_
  refine L_callE (As := [.int (xs (i + 1)), .int (xs (i + 2))]) (nn := 2) Γ Λ (fun X => mtX0_limit (gl G) Λ.2.2.2.2.2.2.2.2.2 X e1) (lw_VW q748 q749 q750 q63 q751) (by decide +kernel) (by decide) hk rfl rfl (Nat.le_of_ble_eq_true rfl) dL_law_866 (fun ad => ?_)
  refine A_aload_n Γ dL_law_869 1 rfl ?_
  refine L_arg (m := 1) (j := 1) (X0 := X0) (X1 := X1) Γ C (by decide) (by omega) dL_law_870 dL_law_871 dL_law_872 dL_law_873 dL_law_874 ?_
  refine L_arg (m := 2) (j := 2) (X0 := X0) (X1 := X1) Γ C (by decide) (by omega) dL_law_875 dL_law_876 dL_law_877 dL_law_878 dL_law_879 ?_
  refine L_call1 (X0 := (xUp X0 ad)) (As := [.int (xs (i + 1)), .int (xs (i + 2))]) (nn := 2) Γ (Λ.up ad) (fun X => mtX1_limit (gl G) X e2) (lw_V q1414 q1415 q1416 q64 q1417) (by decide +kernel) (by decide) hk rfl rfl (Nat.le_of_ble_eq_true rfl) dL_law_880 ?_
  refine A_icmp_eq (t := 2176) (x := r) (y := r) (G := gX G (k + 3) (n + 2010) (LwP (xUp X0 ad) X1 τ')) (st := []) Γ dL_law_883 (by decide) (fun _ => ?_) (fun w => absurd rfl w)
  exact K ad σ' τ' e4
set_option maxHeartbeats 4000000 in
set_option maxRecDepth 100000 in
theorem lc_16 {G : Gx} {X0 X1 : Xw} {σ τ : St} {k n i L b : Nat} {xs : Nat → Int32} (Γ : Ok G R_law code 4) (Λ : LK G X0 X1) (C : LC G b L xs) (hR : R σ τ) (hi : i + 7 ≤ L) (hk : k + 3 ≤ 603072 ∧ n + 2010 ≤ 7262314) (K : ∀ (ad : Nat → Nat) (σ' τ' : St), R σ' τ' → At (gX G (k + 3) (n + 2010) (LwP (xUp X0 ad) X1 τ')) 4 σ' (lvi i X0 X1 b) [] 2176) : At (gX G k n (LwP X0 X1 τ)) 4 σ (lvi i X0 X1 b) [] 888 := by
  obtain ⟨⟨r, σ'⟩, ⟨r', τ'⟩, e1, e2, e3, e4⟩ := s_park hR (xs (i + 1)) (xs (i + 2))
  dsimp only at e3 e4
  subst e3
  refine A_aload_n Γ dL_law_888 2 rfl ?_
  refine L_arg (m := 1) (j := 1) (X0 := X0) (X1 := X1) Γ C (by decide) (by omega) dL_law_889 dL_law_890 dL_law_891 dL_law_892 dL_law_893 ?_
  refine L_arg (m := 2) (j := 2) (X0 := X0) (X1 := X1) Γ C (by decide) (by omega) dL_law_894 dL_law_895 dL_law_896 dL_law_897 dL_law_898 ?_
  refine L_call0 (X0 := X0) (As := [.int (xs (i + 1)), .int (xs (i + 2))]) (nn := 2) Γ Λ (fun X => mtX0_park (gl G) X e1) (lw_V q752 q753 q754 q63 q755) (by decide +kernel) (by decide) ⟨by omega, by omega⟩ rfl rfl (Nat.le_of_ble_eq_true rfl) dL_law_899 ?_
  refine A_aload_n Γ dL_law_902 1 rfl ?_
  refine L_arg (m := 1) (j := 1) (X0 := X0) (X1 := X1) Γ C (by decide) (by omega) dL_law_903 dL_law_904 dL_law_905 dL_law_906 dL_law_907 ?_
  refine L_arg (m := 2) (j := 2) (X0 := X0) (X1 := X1) Γ C (by decide) (by omega) dL_law_908 dL_law_909 dL_law_910 dL_law_911 dL_law_912 ?_
  refine L_call1 (X0 := X0) (As := [.int (xs (i + 1)), .int (xs (i + 2))]) (nn := 2) Γ Λ (fun X => mtX1_park (gl G) X e2) (lw_V q1418 q1419 q1420 q64 q1421) (by decide +kernel) (by decide) ⟨by omega, by omega⟩ rfl rfl (Nat.le_of_ble_eq_true rfl) dL_law_913 ?_
  refine A_icmp_eq (t := 2176) (x := r) (y := r) (G := gX G (k) (n) (LwP X0 X1 τ')) (st := []) Γ dL_law_916 (by decide) (fun _ => ?_) (fun w => absurd rfl w)
  exact L_up (K (xad X0) σ' τ' e4)
set_option maxHeartbeats 4000000 in
set_option maxRecDepth 100000 in
theorem lc_17 {G : Gx} {X0 X1 : Xw} {σ τ : St} {k n i L b : Nat} {xs : Nat → Int32} (Γ : Ok G R_law code 4) (Λ : LK G X0 X1) (C : LC G b L xs) (hR : R σ τ) (hi : i + 7 ≤ L) (hk : k + 3 ≤ 603072 ∧ n + 2010 ≤ 7262314) (K : ∀ (ad : Nat → Nat) (σ' τ' : St), R σ' τ' → At (gX G (k + 3) (n + 2010) (LwP (xUp X0 ad) X1 τ')) 4 σ' (lvi i X0 X1 b) [] 2176) : At (gX G k n (LwP X0 X1 τ)) 4 σ (lvi i X0 X1 b) [] 921 := by
  obtain ⟨⟨r, σ'⟩, ⟨r', τ'⟩, e1, e2, e3, e4⟩ := s_hitch hR (xs (i + 1)) (xs (i + 2))
  dsimp only at e3 e4
  subst e3
  refine A_aload_n Γ dL_law_921 2 rfl ?_
  refine L_arg (m := 1) (j := 1) (X0 := X0) (X1 := X1) Γ C (by decide) (by omega) dL_law_922 dL_law_923 dL_law_924 dL_law_925 dL_law_926 ?_
  refine L_arg (m := 2) (j := 2) (X0 := X0) (X1 := X1) Γ C (by decide) (by omega) dL_law_927 dL_law_928 dL_law_929 dL_law_930 dL_law_931 ?_
  refine L_call0 (X0 := X0) (As := [.int (xs (i + 1)), .int (xs (i + 2))]) (nn := 2) Γ Λ (fun X => mtX0_hitch (gl G) X e1) (lw_V q763 q764 q765 q63 q766) (by decide +kernel) (by decide) ⟨by omega, by omega⟩ rfl rfl (Nat.le_of_ble_eq_true rfl) dL_law_932 ?_
  refine A_aload_n Γ dL_law_935 1 rfl ?_
  refine L_arg (m := 1) (j := 1) (X0 := X0) (X1 := X1) Γ C (by decide) (by omega) dL_law_936 dL_law_937 dL_law_938 dL_law_939 dL_law_940 ?_
  refine L_arg (m := 2) (j := 2) (X0 := X0) (X1 := X1) Γ C (by decide) (by omega) dL_law_941 dL_law_942 dL_law_943 dL_law_944 dL_law_945 ?_
  refine L_call1 (X0 := X0) (As := [.int (xs (i + 1)), .int (xs (i + 2))]) (nn := 2) Γ Λ (fun X => mtX1_hitch (gl G) X e2) (lw_V q1429 q1430 q1431 q64 q1432) (by decide +kernel) (by decide) ⟨by omega, by omega⟩ rfl rfl (Nat.le_of_ble_eq_true rfl) dL_law_946 ?_
  refine A_icmp_eq (t := 2176) (x := r) (y := r) (G := gX G (k) (n) (LwP X0 X1 τ')) (st := []) Γ dL_law_949 (by decide) (fun _ => ?_) (fun w => absurd rfl w)
  exact L_up (K (xad X0) σ' τ' e4)
set_option maxHeartbeats 4000000 in
set_option maxRecDepth 100000 in
theorem lc_18 {G : Gx} {X0 X1 : Xw} {σ τ : St} {k n i L b : Nat} {xs : Nat → Int32} (Γ : Ok G R_law code 4) (Λ : LK G X0 X1) (C : LC G b L xs) (hR : R σ τ) (hi : i + 7 ≤ L) (hk : k + 3 ≤ 603072 ∧ n + 2010 ≤ 7262314) (K : ∀ (ad : Nat → Nat) (σ' τ' : St), R σ' τ' → At (gX G (k + 3) (n + 2010) (LwP (xUp X0 ad) X1 τ')) 4 σ' (lvi i X0 X1 b) [] 2176) : At (gX G k n (LwP X0 X1 τ)) 4 σ (lvi i X0 X1 b) [] 954 := by
  obtain ⟨⟨r, σ'⟩, ⟨r', τ'⟩, e1, e2, e3, e4⟩ := s_drop hR (xs (i + 1))
  dsimp only at e3 e4
  subst e3
  refine A_aload_n Γ dL_law_954 2 rfl ?_
  refine L_arg (m := 1) (j := 1) (X0 := X0) (X1 := X1) Γ C (by decide) (by omega) dL_law_955 dL_law_956 dL_law_957 dL_law_958 dL_law_959 ?_
  refine L_call0 (X0 := X0) (As := [.int (xs (i + 1))]) (nn := 1) Γ Λ (fun X => mtX0_drop (gl G) X e1) (lw_V q767 q768 q769 q63 q770) (by decide +kernel) (by decide) ⟨by omega, by omega⟩ rfl rfl (Nat.le_of_ble_eq_true rfl) dL_law_960 ?_
  refine A_aload_n Γ dL_law_963 1 rfl ?_
  refine L_arg (m := 1) (j := 1) (X0 := X0) (X1 := X1) Γ C (by decide) (by omega) dL_law_964 dL_law_965 dL_law_966 dL_law_967 dL_law_968 ?_
  refine L_call1 (X0 := X0) (As := [.int (xs (i + 1))]) (nn := 1) Γ Λ (fun X => mtX1_drop (gl G) X e2) (lw_V q1433 q1434 q1435 q64 q1436) (by decide +kernel) (by decide) ⟨by omega, by omega⟩ rfl rfl (Nat.le_of_ble_eq_true rfl) dL_law_969 ?_
  refine A_icmp_eq (t := 2176) (x := r) (y := r) (G := gX G (k) (n) (LwP X0 X1 τ')) (st := []) Γ dL_law_972 (by decide) (fun _ => ?_) (fun w => absurd rfl w)
  exact L_up (K (xad X0) σ' τ' e4)
set_option maxHeartbeats 4000000 in
set_option maxRecDepth 100000 in
theorem lc_19 {G : Gx} {X0 X1 : Xw} {σ τ : St} {k n i L b : Nat} {xs : Nat → Int32} (Γ : Ok G R_law code 4) (Λ : LK G X0 X1) (C : LC G b L xs) (hR : R σ τ) (hi : i + 7 ≤ L) (hk : k + 3 ≤ 603072 ∧ n + 2010 ≤ 7262314) (K : ∀ (ad : Nat → Nat) (σ' τ' : St), R σ' τ' → At (gX G (k + 3) (n + 2010) (LwP (xUp X0 ad) X1 τ')) 4 σ' (lvi i X0 X1 b) [] 2176) : At (gX G k n (LwP X0 X1 τ)) 4 σ (lvi i X0 X1 b) [] 977 := by
  obtain ⟨⟨r, σ'⟩, ⟨r', τ'⟩, e1, e2, e3, e4⟩ := s_go hR (xs (i + 1)) (xs (i + 2))
  dsimp only at e3 e4
  subst e3
  refine A_aload_n Γ dL_law_977 2 rfl ?_
  refine L_arg (m := 1) (j := 1) (X0 := X0) (X1 := X1) Γ C (by decide) (by omega) dL_law_978 dL_law_979 dL_law_980 dL_law_981 dL_law_982 ?_
  refine L_arg (m := 2) (j := 2) (X0 := X0) (X1 := X1) Γ C (by decide) (by omega) dL_law_983 dL_law_984 dL_law_985 dL_law_986 dL_law_987 ?_
  refine L_call0 (X0 := X0) (As := [.int (xs (i + 1)), .int (xs (i + 2))]) (nn := 2) Γ Λ (fun X => mtX0_go (gl G) X e1) (lw_V q771 q772 q773 q63 q774) (by decide +kernel) (by decide) ⟨by omega, by omega⟩ rfl rfl (Nat.le_of_ble_eq_true rfl) dL_law_988 ?_
  refine A_aload_n Γ dL_law_991 1 rfl ?_
  refine L_arg (m := 1) (j := 1) (X0 := X0) (X1 := X1) Γ C (by decide) (by omega) dL_law_992 dL_law_993 dL_law_994 dL_law_995 dL_law_996 ?_
  refine L_arg (m := 2) (j := 2) (X0 := X0) (X1 := X1) Γ C (by decide) (by omega) dL_law_997 dL_law_998 dL_law_999 dL_law_1000 dL_law_1001 ?_
  refine L_call1 (X0 := X0) (As := [.int (xs (i + 1)), .int (xs (i + 2))]) (nn := 2) Γ Λ (fun X => mtX1_go (gl G) X e2) (lw_V q1437 q1438 q1439 q64 q1440) (by decide +kernel) (by decide) ⟨by omega, by omega⟩ rfl rfl (Nat.le_of_ble_eq_true rfl) dL_law_1002 ?_
  refine A_icmp_eq (t := 2176) (x := r) (y := r) (G := gX G (k) (n) (LwP X0 X1 τ')) (st := []) Γ dL_law_1005 (by decide) (fun _ => ?_) (fun w => absurd rfl w)
  exact L_up (K (xad X0) σ' τ' e4)
set_option maxHeartbeats 4000000 in
set_option maxRecDepth 100000 in
theorem lc_20 {G : Gx} {X0 X1 : Xw} {σ τ : St} {k n i L b : Nat} {xs : Nat → Int32} (Γ : Ok G R_law code 4) (Λ : LK G X0 X1) (C : LC G b L xs) (hR : R σ τ) (hi : i + 7 ≤ L) (hk : k + 3 ≤ 603072 ∧ n + 2010 ≤ 7262314) (K : ∀ (ad : Nat → Nat) (σ' τ' : St), R σ' τ' → At (gX G (k + 3) (n + 2010) (LwP (xUp X0 ad) X1 τ')) 4 σ' (lvi i X0 X1 b) [] 2176) : At (gX G k n (LwP X0 X1 τ)) 4 σ (lvi i X0 X1 b) [] 1010 := by
  obtain ⟨⟨r, σ'⟩, ⟨r', τ'⟩, e1, e2, e3, e4⟩ := s_tractor hR (xs (i + 1)) (xs (i + 2))
  dsimp only at e3 e4
  subst e3
  refine A_aload_n Γ dL_law_1010 2 rfl ?_
  refine L_arg (m := 1) (j := 1) (X0 := X0) (X1 := X1) Γ C (by decide) (by omega) dL_law_1011 dL_law_1012 dL_law_1013 dL_law_1014 dL_law_1015 ?_
  refine L_arg (m := 2) (j := 2) (X0 := X0) (X1 := X1) Γ C (by decide) (by omega) dL_law_1016 dL_law_1017 dL_law_1018 dL_law_1019 dL_law_1020 ?_
  refine L_call0 (X0 := X0) (As := [.int (xs (i + 1)), .int (xs (i + 2))]) (nn := 2) Γ Λ (fun X => mtX0_tractor (gl G) X e1) (lw_V q779 q780 q781 q63 q782) (by decide +kernel) (by decide) ⟨by omega, by omega⟩ rfl rfl (Nat.le_of_ble_eq_true rfl) dL_law_1021 ?_
  refine A_aload_n Γ dL_law_1024 1 rfl ?_
  refine L_arg (m := 1) (j := 1) (X0 := X0) (X1 := X1) Γ C (by decide) (by omega) dL_law_1025 dL_law_1026 dL_law_1027 dL_law_1028 dL_law_1029 ?_
  refine L_arg (m := 2) (j := 2) (X0 := X0) (X1 := X1) Γ C (by decide) (by omega) dL_law_1030 dL_law_1031 dL_law_1032 dL_law_1033 dL_law_1034 ?_
  refine L_call1 (X0 := X0) (As := [.int (xs (i + 1)), .int (xs (i + 2))]) (nn := 2) Γ Λ (fun X => mtX1_tractor (gl G) X e2) (lw_V q1445 q1446 q1447 q64 q1448) (by decide +kernel) (by decide) ⟨by omega, by omega⟩ rfl rfl (Nat.le_of_ble_eq_true rfl) dL_law_1035 ?_
  refine A_icmp_eq (t := 2176) (x := r) (y := r) (G := gX G (k) (n) (LwP X0 X1 τ')) (st := []) Γ dL_law_1038 (by decide) (fun _ => ?_) (fun w => absurd rfl w)
  exact L_up (K (xad X0) σ' τ' e4)
set_option maxHeartbeats 4000000 in
set_option maxRecDepth 100000 in
theorem lc_21 {G : Gx} {X0 X1 : Xw} {σ τ : St} {k n i L b : Nat} {xs : Nat → Int32} (Γ : Ok G R_law code 4) (Λ : LK G X0 X1) (C : LC G b L xs) (hR : R σ τ) (hi : i + 7 ≤ L) (hk : k + 3 ≤ 603072 ∧ n + 2010 ≤ 7262314) (K : ∀ (ad : Nat → Nat) (σ' τ' : St), R σ' τ' → At (gX G (k + 3) (n + 2010) (LwP (xUp X0 ad) X1 τ')) 4 σ' (lvi i X0 X1 b) [] 2176) : At (gX G k n (LwP X0 X1 τ)) 4 σ (lvi i X0 X1 b) [] 1043 := by
  obtain ⟨⟨r, σ'⟩, ⟨r', τ'⟩, e1, e2, e3, e4⟩ := s_lose hR (xs (i + 1))
  dsimp only at e3 e4
  subst e3
  refine A_aload_n Γ dL_law_1043 2 rfl ?_
  refine L_arg (m := 1) (j := 1) (X0 := X0) (X1 := X1) Γ C (by decide) (by omega) dL_law_1044 dL_law_1045 dL_law_1046 dL_law_1047 dL_law_1048 ?_
  refine L_call0 (X0 := X0) (As := [.int (xs (i + 1))]) (nn := 1) Γ Λ (fun X => mtX0_lose (gl G) X e1) (lw_V q787 q788 q789 q63 q790) (by decide +kernel) (by decide) ⟨by omega, by omega⟩ rfl rfl (Nat.le_of_ble_eq_true rfl) dL_law_1049 ?_
  refine A_aload_n Γ dL_law_1052 1 rfl ?_
  refine L_arg (m := 1) (j := 1) (X0 := X0) (X1 := X1) Γ C (by decide) (by omega) dL_law_1053 dL_law_1054 dL_law_1055 dL_law_1056 dL_law_1057 ?_
  refine L_call1 (X0 := X0) (As := [.int (xs (i + 1))]) (nn := 1) Γ Λ (fun X => mtX1_lose (gl G) X e2) (lw_V q1453 q1454 q1455 q64 q1456) (by decide +kernel) (by decide) ⟨by omega, by omega⟩ rfl rfl (Nat.le_of_ble_eq_true rfl) dL_law_1058 ?_
  refine A_icmp_eq (t := 2176) (x := r) (y := r) (G := gX G (k) (n) (LwP X0 X1 τ')) (st := []) Γ dL_law_1061 (by decide) (fun _ => ?_) (fun w => absurd rfl w)
  exact L_up (K (xad X0) σ' τ' e4)
set_option maxHeartbeats 4000000 in
set_option maxRecDepth 100000 in
theorem lc_22 {G : Gx} {X0 X1 : Xw} {σ τ : St} {k n i L b : Nat} {xs : Nat → Int32} (Γ : Ok G R_law code 4) (Λ : LK G X0 X1) (C : LC G b L xs) (hR : R σ τ) (hi : i + 7 ≤ L) (hk : k + 3 ≤ 603072 ∧ n + 2010 ≤ 7262314) (K : ∀ (ad : Nat → Nat) (σ' τ' : St), R σ' τ' → At (gX G (k + 3) (n + 2010) (LwP (xUp X0 ad) X1 τ')) 4 σ' (lvi i X0 X1 b) [] 2176) : At (gX G k n (LwP X0 X1 τ)) 4 σ (lvi i X0 X1 b) [] 1066 := by
  obtain ⟨⟨r, σ'⟩, ⟨r', τ'⟩, e1, e2, e3, e4⟩ := s_find hR (xs (i + 1)) (xs (i + 2))
  dsimp only at e3 e4
  subst e3
  refine A_aload_n Γ dL_law_1066 2 rfl ?_
  refine L_arg (m := 1) (j := 1) (X0 := X0) (X1 := X1) Γ C (by decide) (by omega) dL_law_1067 dL_law_1068 dL_law_1069 dL_law_1070 dL_law_1071 ?_
  refine L_arg (m := 2) (j := 2) (X0 := X0) (X1 := X1) Γ C (by decide) (by omega) dL_law_1072 dL_law_1073 dL_law_1074 dL_law_1075 dL_law_1076 ?_
  refine L_call0 (X0 := X0) (As := [.int (xs (i + 1)), .int (xs (i + 2))]) (nn := 2) Γ Λ (fun X => mtX0_find (gl G) X e1) (lw_V q791 q792 q793 q63 q794) (by decide +kernel) (by decide) ⟨by omega, by omega⟩ rfl rfl (Nat.le_of_ble_eq_true rfl) dL_law_1077 ?_
  refine A_aload_n Γ dL_law_1080 1 rfl ?_
  refine L_arg (m := 1) (j := 1) (X0 := X0) (X1 := X1) Γ C (by decide) (by omega) dL_law_1081 dL_law_1082 dL_law_1083 dL_law_1084 dL_law_1085 ?_
  refine L_arg (m := 2) (j := 2) (X0 := X0) (X1 := X1) Γ C (by decide) (by omega) dL_law_1086 dL_law_1087 dL_law_1088 dL_law_1089 dL_law_1090 ?_
  refine L_call1 (X0 := X0) (As := [.int (xs (i + 1)), .int (xs (i + 2))]) (nn := 2) Γ Λ (fun X => mtX1_find (gl G) X e2) (lw_V q1457 q1458 q1459 q64 q1460) (by decide +kernel) (by decide) ⟨by omega, by omega⟩ rfl rfl (Nat.le_of_ble_eq_true rfl) dL_law_1091 ?_
  refine A_icmp_eq (t := 2176) (x := r) (y := r) (G := gX G (k) (n) (LwP X0 X1 τ')) (st := []) Γ dL_law_1094 (by decide) (fun _ => ?_) (fun w => absurd rfl w)
  exact L_up (K (xad X0) σ' τ' e4)
set_option maxHeartbeats 4000000 in
set_option maxRecDepth 100000 in
theorem lc_23 {G : Gx} {X0 X1 : Xw} {σ τ : St} {k n i L b : Nat} {xs : Nat → Int32} (Γ : Ok G R_law code 4) (Λ : LK G X0 X1) (C : LC G b L xs) (hR : R σ τ) (hi : i + 7 ≤ L) (hk : k + 3 ≤ 603072 ∧ n + 2010 ≤ 7262314) (K : ∀ (ad : Nat → Nat) (σ' τ' : St), R σ' τ' → At (gX G (k + 3) (n + 2010) (LwP (xUp X0 ad) X1 τ')) 4 σ' (lvi i X0 X1 b) [] 2176) : At (gX G k n (LwP X0 X1 τ)) 4 σ (lvi i X0 X1 b) [] 1099 := by
  obtain ⟨⟨r, σ'⟩, ⟨r', τ'⟩, e1, e2, e3, e4⟩ := s_seal hR (xs (i + 1)) (xs (i + 2))
  dsimp only at e3 e4
  subst e3
  refine A_aload_n Γ dL_law_1099 2 rfl ?_
  refine L_arg (m := 1) (j := 1) (X0 := X0) (X1 := X1) Γ C (by decide) (by omega) dL_law_1100 dL_law_1101 dL_law_1102 dL_law_1103 dL_law_1104 ?_
  refine L_arg (m := 2) (j := 2) (X0 := X0) (X1 := X1) Γ C (by decide) (by omega) dL_law_1105 dL_law_1106 dL_law_1107 dL_law_1108 dL_law_1109 ?_
  refine L_call0 (X0 := X0) (As := [.int (xs (i + 1)), .int (xs (i + 2))]) (nn := 2) Γ Λ (fun X => mtX0_seal (gl G) X e1) (lw_V q795 q796 q797 q63 q798) (by decide +kernel) (by decide) ⟨by omega, by omega⟩ rfl rfl (Nat.le_of_ble_eq_true rfl) dL_law_1110 ?_
  refine A_aload_n Γ dL_law_1113 1 rfl ?_
  refine L_arg (m := 1) (j := 1) (X0 := X0) (X1 := X1) Γ C (by decide) (by omega) dL_law_1114 dL_law_1115 dL_law_1116 dL_law_1117 dL_law_1118 ?_
  refine L_arg (m := 2) (j := 2) (X0 := X0) (X1 := X1) Γ C (by decide) (by omega) dL_law_1119 dL_law_1120 dL_law_1121 dL_law_1122 dL_law_1123 ?_
  refine L_call1 (X0 := X0) (As := [.int (xs (i + 1)), .int (xs (i + 2))]) (nn := 2) Γ Λ (fun X => mtX1_seal (gl G) X e2) (lw_V q1461 q1462 q1463 q64 q1464) (by decide +kernel) (by decide) ⟨by omega, by omega⟩ rfl rfl (Nat.le_of_ble_eq_true rfl) dL_law_1124 ?_
  refine A_icmp_eq (t := 2176) (x := r) (y := r) (G := gX G (k) (n) (LwP X0 X1 τ')) (st := []) Γ dL_law_1127 (by decide) (fun _ => ?_) (fun w => absurd rfl w)
  exact L_up (K (xad X0) σ' τ' e4)
set_option maxHeartbeats 4000000 in
set_option maxRecDepth 100000 in
theorem lc_24 {G : Gx} {X0 X1 : Xw} {σ τ : St} {k n i L b : Nat} {xs : Nat → Int32} (Γ : Ok G R_law code 4) (Λ : LK G X0 X1) (C : LC G b L xs) (hR : R σ τ) (hi : i + 7 ≤ L) (hk : k + 3 ≤ 603072 ∧ n + 2010 ≤ 7262314) (K : ∀ (ad : Nat → Nat) (σ' τ' : St), R σ' τ' → At (gX G (k + 3) (n + 2010) (LwP (xUp X0 ad) X1 τ')) 4 σ' (lvi i X0 X1 b) [] 2176) : At (gX G k n (LwP X0 X1 τ)) 4 σ (lvi i X0 X1 b) [] 1132 := by
  obtain ⟨r, r', e1, e2, rfl⟩ := s_book hR (xs (i + 1)) (xs (i + 2)) (xs (i + 3))
  refine A_aload_n Γ dL_law_1132 2 rfl ?_
  refine L_arg (m := 1) (j := 1) (X0 := X0) (X1 := X1) Γ C (by decide) (by omega) dL_law_1133 dL_law_1134 dL_law_1135 dL_law_1136 dL_law_1137 ?_
  refine L_arg (m := 2) (j := 2) (X0 := X0) (X1 := X1) Γ C (by decide) (by omega) dL_law_1138 dL_law_1139 dL_law_1140 dL_law_1141 dL_law_1142 ?_
  refine L_arg (m := 3) (j := 3) (X0 := X0) (X1 := X1) Γ C (by decide) (by omega) dL_law_1143 dL_law_1144 dL_law_1145 dL_law_1146 dL_law_1147 ?_
  refine L_call0 (X0 := X0) (As := [.int (xs (i + 1)), .int (xs (i + 2)), .int (xs (i + 3))]) (nn := 3) Γ Λ (fun X => mtX0_book (gl G) X e1) (lw_V q799 q800 q801 q63 q802) (by decide +kernel) (by decide) ⟨by omega, by omega⟩ rfl rfl (Nat.le_of_ble_eq_true rfl) dL_law_1148 ?_
  refine A_aload_n Γ dL_law_1151 1 rfl ?_
  refine L_arg (m := 1) (j := 1) (X0 := X0) (X1 := X1) Γ C (by decide) (by omega) dL_law_1152 dL_law_1153 dL_law_1154 dL_law_1155 dL_law_1156 ?_
  refine L_arg (m := 2) (j := 2) (X0 := X0) (X1 := X1) Γ C (by decide) (by omega) dL_law_1157 dL_law_1158 dL_law_1159 dL_law_1160 dL_law_1161 ?_
  refine L_arg (m := 3) (j := 3) (X0 := X0) (X1 := X1) Γ C (by decide) (by omega) dL_law_1162 dL_law_1163 dL_law_1164 dL_law_1165 dL_law_1166 ?_
  refine L_call1 (X0 := X0) (As := [.int (xs (i + 1)), .int (xs (i + 2)), .int (xs (i + 3))]) (nn := 3) Γ Λ (fun X => mtX1_book (gl G) X e2) (lw_V q1465 q1466 q1467 q64 q1468) (by decide +kernel) (by decide) ⟨by omega, by omega⟩ rfl rfl (Nat.le_of_ble_eq_true rfl) dL_law_1167 ?_
  refine A_icmp_eq (t := 2176) (x := r) (y := r) (G := gX G (k) (n) (LwP X0 X1 τ)) (st := []) Γ dL_law_1170 (by decide) (fun _ => ?_) (fun w => absurd rfl w)
  exact L_up (K (xad X0) σ τ hR)
set_option maxHeartbeats 4000000 in
set_option maxRecDepth 100000 in
theorem lc_25 {G : Gx} {X0 X1 : Xw} {σ τ : St} {k n i L b : Nat} {xs : Nat → Int32} (Γ : Ok G R_law code 4) (Λ : LK G X0 X1) (C : LC G b L xs) (hR : R σ τ) (hi : i + 7 ≤ L) (hk : k + 3 ≤ 603072 ∧ n + 2010 ≤ 7262314) (K : ∀ (ad : Nat → Nat) (σ' τ' : St), R σ' τ' → At (gX G (k + 3) (n + 2010) (LwP (xUp X0 ad) X1 τ')) 4 σ' (lvi i X0 X1 b) [] 2176) : At (gX G k n (LwP X0 X1 τ)) 4 σ (lvi i X0 X1 b) [] 1175 := by
  obtain ⟨r, r', e1, e2, rfl⟩ := s_where hR (xs (i + 1)) (xs (i + 2))
  refine A_aload_n Γ dL_law_1175 2 rfl ?_
  refine L_arg (m := 1) (j := 1) (X0 := X0) (X1 := X1) Γ C (by decide) (by omega) dL_law_1176 dL_law_1177 dL_law_1178 dL_law_1179 dL_law_1180 ?_
  refine L_arg (m := 2) (j := 2) (X0 := X0) (X1 := X1) Γ C (by decide) (by omega) dL_law_1181 dL_law_1182 dL_law_1183 dL_law_1184 dL_law_1185 ?_
  refine L_call0 (X0 := X0) (As := [.int (xs (i + 1)), .int (xs (i + 2))]) (nn := 2) Γ Λ (fun X => mtX0_where (gl G) X e1) (lw_V q804 q805 q806 q63 q807) (by decide +kernel) (by decide) ⟨by omega, by omega⟩ rfl rfl (Nat.le_of_ble_eq_true rfl) dL_law_1186 ?_
  refine A_aload_n Γ dL_law_1189 1 rfl ?_
  refine L_arg (m := 1) (j := 1) (X0 := X0) (X1 := X1) Γ C (by decide) (by omega) dL_law_1190 dL_law_1191 dL_law_1192 dL_law_1193 dL_law_1194 ?_
  refine L_arg (m := 2) (j := 2) (X0 := X0) (X1 := X1) Γ C (by decide) (by omega) dL_law_1195 dL_law_1196 dL_law_1197 dL_law_1198 dL_law_1199 ?_
  refine L_call1 (X0 := X0) (As := [.int (xs (i + 1)), .int (xs (i + 2))]) (nn := 2) Γ Λ (fun X => mtX1_where (gl G) X e2) (lw_V q1469 q1470 q1471 q64 q1472) (by decide +kernel) (by decide) ⟨by omega, by omega⟩ rfl rfl (Nat.le_of_ble_eq_true rfl) dL_law_1200 ?_
  refine A_icmp_eq (t := 2176) (x := r) (y := r) (G := gX G (k) (n) (LwP X0 X1 τ)) (st := []) Γ dL_law_1203 (by decide) (fun _ => ?_) (fun w => absurd rfl w)
  exact L_up (K (xad X0) σ τ hR)
set_option maxHeartbeats 4000000 in
set_option maxRecDepth 100000 in
theorem lc_26 {G : Gx} {X0 X1 : Xw} {σ τ : St} {k n i L b : Nat} {xs : Nat → Int32} (Γ : Ok G R_law code 4) (Λ : LK G X0 X1) (C : LC G b L xs) (hR : R σ τ) (hi : i + 7 ≤ L) (hk : k + 3 ≤ 603072 ∧ n + 2010 ≤ 7262314) (K : ∀ (ad : Nat → Nat) (σ' τ' : St), R σ' τ' → At (gX G (k + 3) (n + 2010) (LwP (xUp X0 ad) X1 τ')) 4 σ' (lvi i X0 X1 b) [] 2176) : At (gX G k n (LwP X0 X1 τ)) 4 σ (lvi i X0 X1 b) [] 1208 := by
  obtain ⟨⟨r, σ'⟩, ⟨r', τ'⟩, e1, e2, e3, e4⟩ := s_terms hR (xs (i + 1)) (xs (i + 2))
  dsimp only at e3 e4
  subst e3
  refine A_aload_n Γ dL_law_1208 2 rfl ?_
  refine L_arg (m := 1) (j := 1) (X0 := X0) (X1 := X1) Γ C (by decide) (by omega) dL_law_1209 dL_law_1210 dL_law_1211 dL_law_1212 dL_law_1213 ?_
  refine L_arg (m := 2) (j := 2) (X0 := X0) (X1 := X1) Γ C (by decide) (by omega) dL_law_1214 dL_law_1215 dL_law_1216 dL_law_1217 dL_law_1218 ?_
  refine L_call0 (X0 := X0) (As := [.int (xs (i + 1)), .int (xs (i + 2))]) (nn := 2) Γ Λ (fun X => mtX0_terms (gl G) X e1) (lw_V q808 q809 q810 q63 q811) (by decide +kernel) (by decide) ⟨by omega, by omega⟩ rfl rfl (Nat.le_of_ble_eq_true rfl) dL_law_1219 ?_
  refine A_aload_n Γ dL_law_1222 1 rfl ?_
  refine L_arg (m := 1) (j := 1) (X0 := X0) (X1 := X1) Γ C (by decide) (by omega) dL_law_1223 dL_law_1224 dL_law_1225 dL_law_1226 dL_law_1227 ?_
  refine L_arg (m := 2) (j := 2) (X0 := X0) (X1 := X1) Γ C (by decide) (by omega) dL_law_1228 dL_law_1229 dL_law_1230 dL_law_1231 dL_law_1232 ?_
  refine L_call1 (X0 := X0) (As := [.int (xs (i + 1)), .int (xs (i + 2))]) (nn := 2) Γ Λ (fun X => mtX1_terms (gl G) X e2) (lw_V q1484 q1485 q1486 q64 q1487) (by decide +kernel) (by decide) ⟨by omega, by omega⟩ rfl rfl (Nat.le_of_ble_eq_true rfl) dL_law_1233 ?_
  refine A_icmp_eq (t := 2176) (x := r) (y := r) (G := gX G (k) (n) (LwP X0 X1 τ')) (st := []) Γ dL_law_1236 (by decide) (fun _ => ?_) (fun w => absurd rfl w)
  exact L_up (K (xad X0) σ' τ' e4)
set_option maxHeartbeats 4000000 in
set_option maxRecDepth 100000 in
theorem lc_27 {G : Gx} {X0 X1 : Xw} {σ τ : St} {k n i L b : Nat} {xs : Nat → Int32} (Γ : Ok G R_law code 4) (Λ : LK G X0 X1) (C : LC G b L xs) (hR : R σ τ) (hi : i + 7 ≤ L) (hk : k + 3 ≤ 603072 ∧ n + 2010 ≤ 7262314) (K : ∀ (ad : Nat → Nat) (σ' τ' : St), R σ' τ' → At (gX G (k + 3) (n + 2010) (LwP (xUp X0 ad) X1 τ')) 4 σ' (lvi i X0 X1 b) [] 2176) : At (gX G k n (LwP X0 X1 τ)) 4 σ (lvi i X0 X1 b) [] 1241 := by
  obtain ⟨r, r', e1, e2, rfl⟩ := s_force hR (xs (i + 1)) (xs (i + 2)) (xs (i + 3)) (xs (i + 4))
  refine A_aload_n Γ dL_law_1241 2 rfl ?_
  refine L_arg (m := 1) (j := 1) (X0 := X0) (X1 := X1) Γ C (by decide) (by omega) dL_law_1242 dL_law_1243 dL_law_1244 dL_law_1245 dL_law_1246 ?_
  refine L_arg (m := 2) (j := 2) (X0 := X0) (X1 := X1) Γ C (by decide) (by omega) dL_law_1247 dL_law_1248 dL_law_1249 dL_law_1250 dL_law_1251 ?_
  refine L_arg (m := 3) (j := 3) (X0 := X0) (X1 := X1) Γ C (by decide) (by omega) dL_law_1252 dL_law_1253 dL_law_1254 dL_law_1255 dL_law_1256 ?_
  refine L_arg (m := 4) (j := 4) (X0 := X0) (X1 := X1) Γ C (by decide) (by omega) dL_law_1257 dL_law_1258 dL_law_1259 dL_law_1260 dL_law_1261 ?_
  refine L_call0 (X0 := X0) (As := [.int (xs (i + 1)), .int (xs (i + 2)), .int (xs (i + 3)), .int (xs (i + 4))]) (nn := 4) Γ Λ (fun X => mtX0_force (gl G) X e1) (lw_V q815 q816 q817 q63 q818) (by decide +kernel) (by decide) ⟨by omega, by omega⟩ rfl rfl (Nat.le_of_ble_eq_true rfl) dL_law_1262 ?_
  refine A_aload_n Γ dL_law_1265 1 rfl ?_
  refine L_arg (m := 1) (j := 1) (X0 := X0) (X1 := X1) Γ C (by decide) (by omega) dL_law_1266 dL_law_1267 dL_law_1268 dL_law_1269 dL_law_1270 ?_
  refine L_arg (m := 2) (j := 2) (X0 := X0) (X1 := X1) Γ C (by decide) (by omega) dL_law_1271 dL_law_1272 dL_law_1273 dL_law_1274 dL_law_1275 ?_
  refine L_arg (m := 3) (j := 3) (X0 := X0) (X1 := X1) Γ C (by decide) (by omega) dL_law_1276 dL_law_1277 dL_law_1278 dL_law_1279 dL_law_1280 ?_
  refine L_arg (m := 4) (j := 4) (X0 := X0) (X1 := X1) Γ C (by decide) (by omega) dL_law_1281 dL_law_1282 dL_law_1283 dL_law_1284 dL_law_1285 ?_
  refine L_call1 (X0 := X0) (As := [.int (xs (i + 1)), .int (xs (i + 2)), .int (xs (i + 3)), .int (xs (i + 4))]) (nn := 4) Γ Λ (fun X => mtX1_force (gl G) X e2) (lw_V q1491 q1492 q1493 q64 q1494) (by decide +kernel) (by decide) ⟨by omega, by omega⟩ rfl rfl (Nat.le_of_ble_eq_true rfl) dL_law_1286 ?_
  refine A_icmp_eq (t := 2176) (x := r) (y := r) (G := gX G (k) (n) (LwP X0 X1 τ)) (st := []) Γ dL_law_1289 (by decide) (fun _ => ?_) (fun w => absurd rfl w)
  exact L_up (K (xad X0) σ τ hR)
set_option maxHeartbeats 4000000 in
set_option maxRecDepth 100000 in
theorem lc_28 {G : Gx} {X0 X1 : Xw} {σ τ : St} {k n i L b : Nat} {xs : Nat → Int32} (Γ : Ok G R_law code 4) (Λ : LK G X0 X1) (C : LC G b L xs) (hR : R σ τ) (hi : i + 7 ≤ L) (hk : k + 3 ≤ 603072 ∧ n + 2010 ≤ 7262314) (K : ∀ (ad : Nat → Nat) (σ' τ' : St), R σ' τ' → At (gX G (k + 3) (n + 2010) (LwP (xUp X0 ad) X1 τ')) 4 σ' (lvi i X0 X1 b) [] 2176) : At (gX G k n (LwP X0 X1 τ)) 4 σ (lvi i X0 X1 b) [] 1294 := by
  obtain ⟨⟨r, σ'⟩, ⟨r', τ'⟩, e1, e2, e3, e4⟩ := s_detention hR (xs (i + 1))
  dsimp only at e3 e4
  subst e3
  refine A_aload_n Γ dL_law_1294 2 rfl ?_
  refine L_arg (m := 1) (j := 1) (X0 := X0) (X1 := X1) Γ C (by decide) (by omega) dL_law_1295 dL_law_1296 dL_law_1297 dL_law_1298 dL_law_1299 ?_
  refine L_call0 (X0 := X0) (As := [.int (xs (i + 1))]) (nn := 1) Γ Λ (fun X => mtX0_detention (gl G) X e1) (lw_V q823 q824 q825 q63 q826) (by decide +kernel) (by decide) ⟨by omega, by omega⟩ rfl rfl (Nat.le_of_ble_eq_true rfl) dL_law_1300 ?_
  refine A_aload_n Γ dL_law_1303 1 rfl ?_
  refine L_arg (m := 1) (j := 1) (X0 := X0) (X1 := X1) Γ C (by decide) (by omega) dL_law_1304 dL_law_1305 dL_law_1306 dL_law_1307 dL_law_1308 ?_
  refine L_call1 (X0 := X0) (As := [.int (xs (i + 1))]) (nn := 1) Γ Λ (fun X => mtX1_detention (gl G) X e2) (lw_V q1495 q1496 q1497 q64 q1498) (by decide +kernel) (by decide) ⟨by omega, by omega⟩ rfl rfl (Nat.le_of_ble_eq_true rfl) dL_law_1309 ?_
  refine A_icmp_eq (t := 2176) (x := r) (y := r) (G := gX G (k) (n) (LwP X0 X1 τ')) (st := []) Γ dL_law_1312 (by decide) (fun _ => ?_) (fun w => absurd rfl w)
  exact L_up (K (xad X0) σ' τ' e4)
set_option maxHeartbeats 4000000 in
set_option maxRecDepth 100000 in
theorem lc_29 {G : Gx} {X0 X1 : Xw} {σ τ : St} {k n i L b : Nat} {xs : Nat → Int32} (Γ : Ok G R_law code 4) (Λ : LK G X0 X1) (C : LC G b L xs) (hR : R σ τ) (hi : i + 7 ≤ L) (hk : k + 3 ≤ 603072 ∧ n + 2010 ≤ 7262314) (K : ∀ (ad : Nat → Nat) (σ' τ' : St), R σ' τ' → At (gX G (k + 3) (n + 2010) (LwP (xUp X0 ad) X1 τ')) 4 σ' (lvi i X0 X1 b) [] 2176) : At (gX G k n (LwP X0 X1 τ)) 4 σ (lvi i X0 X1 b) [] 1317 := by
  obtain ⟨r, r', e1, e2, rfl⟩ := s_pence hR 
  refine A_aload_n Γ dL_law_1317 2 rfl ?_
  refine L_call0 (X0 := X0) (As := []) (nn := 0) Γ Λ (fun X => mtX0_pence (gl G) X e1) (lw_V q819 q820 q821 q63 q822) (by decide +kernel) (by decide) ⟨by omega, by omega⟩ rfl rfl (Nat.le_of_ble_eq_true rfl) dL_law_1318 ?_
  refine A_aload_n Γ dL_law_1321 1 rfl ?_
  refine L_call1 (X0 := X0) (As := []) (nn := 0) Γ Λ (fun X => mtX1_pence (gl G) X e2) (lw_V q1499 q1500 q1501 q64 q1502) (by decide +kernel) (by decide) ⟨by omega, by omega⟩ rfl rfl (Nat.le_of_ble_eq_true rfl) dL_law_1322 ?_
  refine A_lcmp (x := r) (y := r) (G := gX G (k) (n) (LwP X0 X1 τ)) (st := []) Γ dL_law_1325 ?_
  refine A_if_eq (t := 2176) (x := lg_cmp r r) (G := gX G (k) (n) (LwP X0 X1 τ)) (st := []) Γ dL_law_1326 (by decide) (fun _ => ?_) (fun w => absurd (lcmp_0 _) w)
  exact L_up (K (xad X0) σ τ hR)
set_option maxHeartbeats 4000000 in
set_option maxRecDepth 100000 in
theorem lc_30 {G : Gx} {X0 X1 : Xw} {σ τ : St} {k n i L b : Nat} {xs : Nat → Int32} (Γ : Ok G R_law code 4) (Λ : LK G X0 X1) (C : LC G b L xs) (hR : R σ τ) (hi : i + 7 ≤ L) (hk : k + 3 ≤ 603072 ∧ n + 2010 ≤ 7262314) (K : ∀ (ad : Nat → Nat) (σ' τ' : St), R σ' τ' → At (gX G (k + 3) (n + 2010) (LwP (xUp X0 ad) X1 τ')) 4 σ' (lvi i X0 X1 b) [] 2176) : At (gX G k n (LwP X0 X1 τ)) 4 σ (lvi i X0 X1 b) [] 1331 := by
  obtain ⟨⟨r, σ'⟩, ⟨r', τ'⟩, e1, e2, e3, e4⟩ := s_law hR (xs (i + 1)) (xs (i + 2))
  dsimp only at e3 e4
  subst e3
  refine A_aload_n Γ dL_law_1331 2 rfl ?_
  refine L_arg (m := 1) (j := 1) (X0 := X0) (X1 := X1) Γ C (by decide) (by omega) dL_law_1332 dL_law_1333 dL_law_1334 dL_law_1335 dL_law_1336 ?_
  refine L_arg (m := 2) (j := 2) (X0 := X0) (X1 := X1) Γ C (by decide) (by omega) dL_law_1337 dL_law_1338 dL_law_1339 dL_law_1340 dL_law_1341 ?_
  refine L_call0 (X0 := X0) (As := [.int (xs (i + 1)), .int (xs (i + 2))]) (nn := 2) Γ Λ (fun X => mtX0_law (gl G) X e1) (lw_V q831 q832 q833 q63 q834) (by decide +kernel) (by decide) ⟨by omega, by omega⟩ rfl rfl (Nat.le_of_ble_eq_true rfl) dL_law_1342 ?_
  refine A_aload_n Γ dL_law_1345 1 rfl ?_
  refine L_arg (m := 1) (j := 1) (X0 := X0) (X1 := X1) Γ C (by decide) (by omega) dL_law_1346 dL_law_1347 dL_law_1348 dL_law_1349 dL_law_1350 ?_
  refine L_arg (m := 2) (j := 2) (X0 := X0) (X1 := X1) Γ C (by decide) (by omega) dL_law_1351 dL_law_1352 dL_law_1353 dL_law_1354 dL_law_1355 ?_
  refine L_call1 (X0 := X0) (As := [.int (xs (i + 1)), .int (xs (i + 2))]) (nn := 2) Γ Λ (fun X => mtX1_law (gl G) X e2) (lw_V q1503 q1504 q1505 q64 q1506) (by decide +kernel) (by decide) ⟨by omega, by omega⟩ rfl rfl (Nat.le_of_ble_eq_true rfl) dL_law_1356 ?_
  refine A_icmp_eq (t := 2176) (x := r) (y := r) (G := gX G (k) (n) (LwP X0 X1 τ')) (st := []) Γ dL_law_1359 (by decide) (fun _ => ?_) (fun w => absurd rfl w)
  exact L_up (K (xad X0) σ' τ' e4)
set_option maxHeartbeats 4000000 in
set_option maxRecDepth 100000 in
theorem lc_31 {G : Gx} {X0 X1 : Xw} {σ τ : St} {k n i L b : Nat} {xs : Nat → Int32} (Γ : Ok G R_law code 4) (Λ : LK G X0 X1) (C : LC G b L xs) (hR : R σ τ) (hi : i + 7 ≤ L) (hk : k + 3 ≤ 603072 ∧ n + 2010 ≤ 7262314) (K : ∀ (ad : Nat → Nat) (σ' τ' : St), R σ' τ' → At (gX G (k + 3) (n + 2010) (LwP (xUp X0 ad) X1 τ')) 4 σ' (lvi i X0 X1 b) [] 2176) : At (gX G k n (LwP X0 X1 τ)) 4 σ (lvi i X0 X1 b) [] 1364 := by
  obtain ⟨⟨r, σ'⟩, ⟨r', τ'⟩, e1, e2, e3, e4⟩ := s_load hR (xs (i + 1)) (xs (i + 2)) (xs (i + 3))
  dsimp only at e3 e4
  subst e3
  refine A_aload_n Γ dL_law_1364 2 rfl ?_
  refine L_arg (m := 1) (j := 1) (X0 := X0) (X1 := X1) Γ C (by decide) (by omega) dL_law_1365 dL_law_1366 dL_law_1367 dL_law_1368 dL_law_1369 ?_
  refine L_arg (m := 2) (j := 2) (X0 := X0) (X1 := X1) Γ C (by decide) (by omega) dL_law_1370 dL_law_1371 dL_law_1372 dL_law_1373 dL_law_1374 ?_
  refine L_arg (m := 3) (j := 3) (X0 := X0) (X1 := X1) Γ C (by decide) (by omega) dL_law_1375 dL_law_1376 dL_law_1377 dL_law_1378 dL_law_1379 ?_
  refine L_call0 (X0 := X0) (As := [.int (xs (i + 1)), .int (xs (i + 2)), .int (xs (i + 3))]) (nn := 3) Γ Λ (fun X => mtX0_load (gl G) X e1) (lw_V q835 q836 q837 q63 q838) (by decide +kernel) (by decide) ⟨by omega, by omega⟩ rfl rfl (Nat.le_of_ble_eq_true rfl) dL_law_1380 ?_
  refine A_aload_n Γ dL_law_1383 1 rfl ?_
  refine L_arg (m := 1) (j := 1) (X0 := X0) (X1 := X1) Γ C (by decide) (by omega) dL_law_1384 dL_law_1385 dL_law_1386 dL_law_1387 dL_law_1388 ?_
  refine L_arg (m := 2) (j := 2) (X0 := X0) (X1 := X1) Γ C (by decide) (by omega) dL_law_1389 dL_law_1390 dL_law_1391 dL_law_1392 dL_law_1393 ?_
  refine L_arg (m := 3) (j := 3) (X0 := X0) (X1 := X1) Γ C (by decide) (by omega) dL_law_1394 dL_law_1395 dL_law_1396 dL_law_1397 dL_law_1398 ?_
  refine L_call1 (X0 := X0) (As := [.int (xs (i + 1)), .int (xs (i + 2)), .int (xs (i + 3))]) (nn := 3) Γ Λ (fun X => mtX1_load (gl G) X e2) (lw_V q1507 q1508 q1509 q64 q1510) (by decide +kernel) (by decide) ⟨by omega, by omega⟩ rfl rfl (Nat.le_of_ble_eq_true rfl) dL_law_1399 ?_
  refine A_icmp_eq (t := 2176) (x := r) (y := r) (G := gX G (k) (n) (LwP X0 X1 τ')) (st := []) Γ dL_law_1402 (by decide) (fun _ => ?_) (fun w => absurd rfl w)
  exact L_up (K (xad X0) σ' τ' e4)
set_option maxHeartbeats 4000000 in
set_option maxRecDepth 100000 in
theorem lc_32 {G : Gx} {X0 X1 : Xw} {σ τ : St} {k n i L b : Nat} {xs : Nat → Int32} (Γ : Ok G R_law code 4) (Λ : LK G X0 X1) (C : LC G b L xs) (hR : R σ τ) (hi : i + 7 ≤ L) (hk : k + 3 ≤ 603072 ∧ n + 2010 ≤ 7262314) (K : ∀ (ad : Nat → Nat) (σ' τ' : St), R σ' τ' → At (gX G (k + 3) (n + 2010) (LwP (xUp X0 ad) X1 τ')) 4 σ' (lvi i X0 X1 b) [] 2176) : At (gX G k n (LwP X0 X1 τ)) 4 σ (lvi i X0 X1 b) [] 1407 := by
  obtain ⟨⟨r, σ'⟩, ⟨r', τ'⟩, e1, e2, e3, e4⟩ := s_unload hR (xs (i + 1))
  dsimp only at e3 e4
  subst e3
  refine A_aload_n Γ dL_law_1407 2 rfl ?_
  refine L_arg (m := 1) (j := 1) (X0 := X0) (X1 := X1) Γ C (by decide) (by omega) dL_law_1408 dL_law_1409 dL_law_1410 dL_law_1411 dL_law_1412 ?_
  refine L_call0 (X0 := X0) (As := [.int (xs (i + 1))]) (nn := 1) Γ Λ (fun X => mtX0_unload (gl G) X e1) (lw_V q839 q840 q841 q63 q842) (by decide +kernel) (by decide) ⟨by omega, by omega⟩ rfl rfl (Nat.le_of_ble_eq_true rfl) dL_law_1413 ?_
  refine A_aload_n Γ dL_law_1416 1 rfl ?_
  refine L_arg (m := 1) (j := 1) (X0 := X0) (X1 := X1) Γ C (by decide) (by omega) dL_law_1417 dL_law_1418 dL_law_1419 dL_law_1420 dL_law_1421 ?_
  refine L_call1 (X0 := X0) (As := [.int (xs (i + 1))]) (nn := 1) Γ Λ (fun X => mtX1_unload (gl G) X e2) (lw_V q1511 q1512 q1513 q64 q1514) (by decide +kernel) (by decide) ⟨by omega, by omega⟩ rfl rfl (Nat.le_of_ble_eq_true rfl) dL_law_1422 ?_
  refine A_icmp_eq (t := 2176) (x := r) (y := r) (G := gX G (k) (n) (LwP X0 X1 τ')) (st := []) Γ dL_law_1425 (by decide) (fun _ => ?_) (fun w => absurd rfl w)
  exact L_up (K (xad X0) σ' τ' e4)
set_option maxHeartbeats 4000000 in
set_option maxRecDepth 100000 in
theorem lc_33 {G : Gx} {X0 X1 : Xw} {σ τ : St} {k n i L b : Nat} {xs : Nat → Int32} (Γ : Ok G R_law code 4) (Λ : LK G X0 X1) (C : LC G b L xs) (hR : R σ τ) (hi : i + 7 ≤ L) (hk : k + 3 ≤ 603072 ∧ n + 2010 ≤ 7262314) (K : ∀ (ad : Nat → Nat) (σ' τ' : St), R σ' τ' → At (gX G (k + 3) (n + 2010) (LwP (xUp X0 ad) X1 τ')) 4 σ' (lvi i X0 X1 b) [] 2176) : At (gX G k n (LwP X0 X1 τ)) 4 σ (lvi i X0 X1 b) [] 1430 := by
  obtain ⟨⟨r, σ'⟩, ⟨r', τ'⟩, e1, e2, e3, e4⟩ := s_slide hR (xs (i + 1)) (xs (i + 2))
  dsimp only at e3 e4
  subst e3
  refine A_aload_n Γ dL_law_1430 2 rfl ?_
  refine L_arg (m := 1) (j := 1) (X0 := X0) (X1 := X1) Γ C (by decide) (by omega) dL_law_1431 dL_law_1432 dL_law_1433 dL_law_1434 dL_law_1435 ?_
  refine L_arg (m := 2) (j := 2) (X0 := X0) (X1 := X1) Γ C (by decide) (by omega) dL_law_1436 dL_law_1437 dL_law_1438 dL_law_1439 dL_law_1440 ?_
  refine L_call0 (X0 := X0) (As := [.int (xs (i + 1)), .int (xs (i + 2))]) (nn := 2) Γ Λ (fun X => mtX0_slide (gl G) X e1) (lw_V q843 q844 q845 q63 q846) (by decide +kernel) (by decide) ⟨by omega, by omega⟩ rfl rfl (Nat.le_of_ble_eq_true rfl) dL_law_1441 ?_
  refine A_aload_n Γ dL_law_1444 1 rfl ?_
  refine L_arg (m := 1) (j := 1) (X0 := X0) (X1 := X1) Γ C (by decide) (by omega) dL_law_1445 dL_law_1446 dL_law_1447 dL_law_1448 dL_law_1449 ?_
  refine L_arg (m := 2) (j := 2) (X0 := X0) (X1 := X1) Γ C (by decide) (by omega) dL_law_1450 dL_law_1451 dL_law_1452 dL_law_1453 dL_law_1454 ?_
  refine L_call1 (X0 := X0) (As := [.int (xs (i + 1)), .int (xs (i + 2))]) (nn := 2) Γ Λ (fun X => mtX1_slide (gl G) X e2) (lw_V q1515 q1516 q1517 q64 q1518) (by decide +kernel) (by decide) ⟨by omega, by omega⟩ rfl rfl (Nat.le_of_ble_eq_true rfl) dL_law_1455 ?_
  refine A_icmp_eq (t := 2176) (x := r) (y := r) (G := gX G (k) (n) (LwP X0 X1 τ')) (st := []) Γ dL_law_1458 (by decide) (fun _ => ?_) (fun w => absurd rfl w)
  exact L_up (K (xad X0) σ' τ' e4)
set_option maxHeartbeats 4000000 in
set_option maxRecDepth 100000 in
theorem lc_35 {G : Gx} {X0 X1 : Xw} {σ τ : St} {k n i L b : Nat} {xs : Nat → Int32} (Γ : Ok G R_law code 4) (Λ : LK G X0 X1) (C : LC G b L xs) (hR : R σ τ) (hi : i + 7 ≤ L) (hk : k + 3 ≤ 603072 ∧ n + 2010 ≤ 7262314) (K : ∀ (ad : Nat → Nat) (σ' τ' : St), R σ' τ' → At (gX G (k + 3) (n + 2010) (LwP (xUp X0 ad) X1 τ')) 4 σ' (lvi i X0 X1 b) [] 2176) : At (gX G k n (LwP X0 X1 τ)) 4 σ (lvi i X0 X1 b) [] 1512 := by
  obtain ⟨r, r', e1, e2, rfl⟩ := s_lawful hR (xs (i + 1))
  refine A_aload_n Γ dL_law_1512 2 rfl ?_
  refine L_arg (m := 1) (j := 1) (X0 := X0) (X1 := X1) Γ C (by decide) (by omega) dL_law_1513 dL_law_1514 dL_law_1515 dL_law_1516 dL_law_1517 ?_
  refine L_call0 (X0 := X0) (As := [.int (xs (i + 1))]) (nn := 1) Γ Λ (fun X => mtX0_lawful (gl G) X e1) (lw_V q874 q875 q876 q63 q877) (by decide +kernel) (by decide) ⟨by omega, by omega⟩ rfl rfl (Nat.le_of_ble_eq_true rfl) dL_law_1518 ?_
  refine A_aload_n Γ dL_law_1521 1 rfl ?_
  refine L_arg (m := 1) (j := 1) (X0 := X0) (X1 := X1) Γ C (by decide) (by omega) dL_law_1522 dL_law_1523 dL_law_1524 dL_law_1525 dL_law_1526 ?_
  refine L_call1 (X0 := X0) (As := [.int (xs (i + 1))]) (nn := 1) Γ Λ (fun X => mtX1_lawful (gl G) X e2) (lw_V q1538 q1539 q1540 q64 q1541) (by decide +kernel) (by decide) ⟨by omega, by omega⟩ rfl rfl (Nat.le_of_ble_eq_true rfl) dL_law_1527 ?_
  refine A_icmp_eq (t := 2176) (x := r) (y := r) (G := gX G (k) (n) (LwP X0 X1 τ)) (st := []) Γ dL_law_1530 (by decide) (fun _ => ?_) (fun w => absurd rfl w)
  exact L_up (K (xad X0) σ τ hR)
set_option maxHeartbeats 4000000 in
set_option maxRecDepth 100000 in
theorem lc_36 {G : Gx} {X0 X1 : Xw} {σ τ : St} {k n i L b : Nat} {xs : Nat → Int32} (Γ : Ok G R_law code 4) (Λ : LK G X0 X1) (C : LC G b L xs) (hR : R σ τ) (hi : i + 7 ≤ L) (hk : k + 3 ≤ 603072 ∧ n + 2010 ≤ 7262314) (K : ∀ (ad : Nat → Nat) (σ' τ' : St), R σ' τ' → At (gX G (k + 3) (n + 2010) (LwP (xUp X0 ad) X1 τ')) 4 σ' (lvi i X0 X1 b) [] 2176) : At (gX G k n (LwP X0 X1 τ)) 4 σ (lvi i X0 X1 b) [] 1535 := by
  obtain ⟨r, r', e1, e2, rfl⟩ := s_shift hR (xs (i + 1))
  refine A_aload_n Γ dL_law_1535 2 rfl ?_
  refine L_arg (m := 1) (j := 1) (X0 := X0) (X1 := X1) Γ C (by decide) (by omega) dL_law_1536 dL_law_1537 dL_law_1538 dL_law_1539 dL_law_1540 ?_
  refine L_call0 (X0 := X0) (As := [.int (xs (i + 1))]) (nn := 1) Γ Λ (fun X => mtX0_shift (gl G) X e1) (lw_V q888 q889 q890 q63 q891) (by decide +kernel) (by decide) ⟨by omega, by omega⟩ rfl rfl (Nat.le_of_ble_eq_true rfl) dL_law_1541 ?_
  refine A_aload_n Γ dL_law_1544 1 rfl ?_
  refine L_arg (m := 1) (j := 1) (X0 := X0) (X1 := X1) Γ C (by decide) (by omega) dL_law_1545 dL_law_1546 dL_law_1547 dL_law_1548 dL_law_1549 ?_
  refine L_call1 (X0 := X0) (As := [.int (xs (i + 1))]) (nn := 1) Γ Λ (fun X => mtX1_shift (gl G) X e2) (lw_V q1546 q1547 q1548 q64 q1549) (by decide +kernel) (by decide) ⟨by omega, by omega⟩ rfl rfl (Nat.le_of_ble_eq_true rfl) dL_law_1550 ?_
  refine A_icmp_eq (t := 2176) (x := r) (y := r) (G := gX G (k) (n) (LwP X0 X1 τ)) (st := []) Γ dL_law_1553 (by decide) (fun _ => ?_) (fun w => absurd rfl w)
  exact L_up (K (xad X0) σ τ hR)
set_option maxHeartbeats 4000000 in
set_option maxRecDepth 100000 in
theorem lc_37 {G : Gx} {X0 X1 : Xw} {σ τ : St} {k n i L b : Nat} {xs : Nat → Int32} (Γ : Ok G R_law code 4) (Λ : LK G X0 X1) (C : LC G b L xs) (hR : R σ τ) (hi : i + 7 ≤ L) (hk : k + 3 ≤ 603072 ∧ n + 2010 ≤ 7262314) (K : ∀ (ad : Nat → Nat) (σ' τ' : St), R σ' τ' → At (gX G (k + 3) (n + 2010) (LwP (xUp X0 ad) X1 τ')) 4 σ' (lvi i X0 X1 b) [] 2176) : At (gX G k n (LwP X0 X1 τ)) 4 σ (lvi i X0 X1 b) [] 1558 := by
  obtain ⟨⟨r, σ'⟩, ⟨r', τ'⟩, e1, e2, e3, e4⟩ := s_cold hR (xs (i + 1)) (xs (i + 2)) (xs (i + 3))
  dsimp only at e3 e4
  subst e3
  refine A_aload_n Γ dL_law_1558 2 rfl ?_
  refine L_arg (m := 1) (j := 1) (X0 := X0) (X1 := X1) Γ C (by decide) (by omega) dL_law_1559 dL_law_1560 dL_law_1561 dL_law_1562 dL_law_1563 ?_
  refine L_arg (m := 2) (j := 2) (X0 := X0) (X1 := X1) Γ C (by decide) (by omega) dL_law_1564 dL_law_1565 dL_law_1566 dL_law_1567 dL_law_1568 ?_
  refine L_arg (m := 3) (j := 3) (X0 := X0) (X1 := X1) Γ C (by decide) (by omega) dL_law_1569 dL_law_1570 dL_law_1571 dL_law_1572 dL_law_1573 ?_
  refine L_call0 (X0 := X0) (As := [.int (xs (i + 1)), .int (xs (i + 2)), .int (xs (i + 3))]) (nn := 3) Γ Λ (fun X => mtX0_cold (gl G) X e1) (lw_V q892 q893 q894 q63 q895) (by decide +kernel) (by decide) ⟨by omega, by omega⟩ rfl rfl (Nat.le_of_ble_eq_true rfl) dL_law_1574 ?_
  refine A_aload_n Γ dL_law_1577 1 rfl ?_
  refine L_arg (m := 1) (j := 1) (X0 := X0) (X1 := X1) Γ C (by decide) (by omega) dL_law_1578 dL_law_1579 dL_law_1580 dL_law_1581 dL_law_1582 ?_
  refine L_arg (m := 2) (j := 2) (X0 := X0) (X1 := X1) Γ C (by decide) (by omega) dL_law_1583 dL_law_1584 dL_law_1585 dL_law_1586 dL_law_1587 ?_
  refine L_arg (m := 3) (j := 3) (X0 := X0) (X1 := X1) Γ C (by decide) (by omega) dL_law_1588 dL_law_1589 dL_law_1590 dL_law_1591 dL_law_1592 ?_
  refine L_call1 (X0 := X0) (As := [.int (xs (i + 1)), .int (xs (i + 2)), .int (xs (i + 3))]) (nn := 3) Γ Λ (fun X => mtX1_cold (gl G) X e2) (lw_V q1550 q1551 q1552 q64 q1553) (by decide +kernel) (by decide) ⟨by omega, by omega⟩ rfl rfl (Nat.le_of_ble_eq_true rfl) dL_law_1593 ?_
  refine A_icmp_eq (t := 2176) (x := r) (y := r) (G := gX G (k) (n) (LwP X0 X1 τ')) (st := []) Γ dL_law_1596 (by decide) (fun _ => ?_) (fun w => absurd rfl w)
  exact L_up (K (xad X0) σ' τ' e4)
set_option maxHeartbeats 4000000 in
set_option maxRecDepth 100000 in
theorem lc_38 {G : Gx} {X0 X1 : Xw} {σ τ : St} {k n i L b : Nat} {xs : Nat → Int32} (Γ : Ok G R_law code 4) (Λ : LK G X0 X1) (C : LC G b L xs) (hR : R σ τ) (hi : i + 7 ≤ L) (hk : k + 3 ≤ 603072 ∧ n + 2010 ≤ 7262314) (K : ∀ (ad : Nat → Nat) (σ' τ' : St), R σ' τ' → At (gX G (k + 3) (n + 2010) (LwP (xUp X0 ad) X1 τ')) 4 σ' (lvi i X0 X1 b) [] 2176) : At (gX G k n (LwP X0 X1 τ)) 4 σ (lvi i X0 X1 b) [] 1601 := by
  obtain ⟨⟨r, σ'⟩, ⟨r', τ'⟩, e1, e2, e3, e4⟩ := s_mean hR (xs (i + 1))
  dsimp only at e3 e4
  subst e3
  refine A_aload_n Γ dL_law_1601 2 rfl ?_
  refine L_arg (m := 1) (j := 1) (X0 := X0) (X1 := X1) Γ C (by decide) (by omega) dL_law_1602 dL_law_1603 dL_law_1604 dL_law_1605 dL_law_1606 ?_
  refine L_callE (As := [.int (xs (i + 1))]) (nn := 1) Γ Λ (fun X => mtX0_mean (gl G) Λ.2.2.2.2.2.2.2.2.2 X e1) (lw_VW q464 q465 q466 q63 q467) (by decide +kernel) (by decide) hk rfl rfl (Nat.le_of_ble_eq_true rfl) dL_law_1607 (fun ad => ?_)
  refine A_aload_n Γ dL_law_1610 1 rfl ?_
  refine L_arg (m := 1) (j := 1) (X0 := X0) (X1 := X1) Γ C (by decide) (by omega) dL_law_1611 dL_law_1612 dL_law_1613 dL_law_1614 dL_law_1615 ?_
  refine L_call1 (X0 := (xUp X0 ad)) (As := [.int (xs (i + 1))]) (nn := 1) Γ (Λ.up ad) (fun X => mtX1_mean (gl G) X e2) (lw_V q1554 q1555 q1556 q64 q1557) (by decide +kernel) (by decide) hk rfl rfl (Nat.le_of_ble_eq_true rfl) dL_law_1616 ?_
  refine A_icmp_eq (t := 2176) (x := r) (y := r) (G := gX G (k + 3) (n + 2010) (LwP (xUp X0 ad) X1 τ')) (st := []) Γ dL_law_1619 (by decide) (fun _ => ?_) (fun w => absurd rfl w)
  exact K ad σ' τ' e4
set_option maxHeartbeats 4000000 in
set_option maxRecDepth 100000 in
theorem lc_39 {G : Gx} {X0 X1 : Xw} {σ τ : St} {k n i L b : Nat} {xs : Nat → Int32} (Γ : Ok G R_law code 4) (Λ : LK G X0 X1) (C : LC G b L xs) (hR : R σ τ) (hi : i + 7 ≤ L) (hk : k + 3 ≤ 603072 ∧ n + 2010 ≤ 7262314) (K : ∀ (ad : Nat → Nat) (σ' τ' : St), R σ' τ' → At (gX G (k + 3) (n + 2010) (LwP (xUp X0 ad) X1 τ')) 4 σ' (lvi i X0 X1 b) [] 2176) : At (gX G k n (LwP X0 X1 τ)) 4 σ (lvi i X0 X1 b) [] 1624 := by
  obtain ⟨⟨r, σ'⟩, ⟨r', τ'⟩, e1, e2, e3, e4⟩ := s_theft hR (xs (i + 1))
  dsimp only at e3 e4
  subst e3
  refine A_aload_n Γ dL_law_1624 2 rfl ?_
  refine L_arg (m := 1) (j := 1) (X0 := X0) (X1 := X1) Γ C (by decide) (by omega) dL_law_1625 dL_law_1626 dL_law_1627 dL_law_1628 dL_law_1629 ?_
  refine L_call0 (X0 := X0) (As := [.int (xs (i + 1))]) (nn := 1) Γ Λ (fun X => mtX0_theft (gl G) X e1) (lw_V q927 q928 q929 q63 q930) (by decide +kernel) (by decide) ⟨by omega, by omega⟩ rfl rfl (Nat.le_of_ble_eq_true rfl) dL_law_1630 ?_
  refine A_aload_n Γ dL_law_1633 1 rfl ?_
  refine L_arg (m := 1) (j := 1) (X0 := X0) (X1 := X1) Γ C (by decide) (by omega) dL_law_1634 dL_law_1635 dL_law_1636 dL_law_1637 dL_law_1638 ?_
  refine L_call1 (X0 := X0) (As := [.int (xs (i + 1))]) (nn := 1) Γ Λ (fun X => mtX1_theft (gl G) X e2) (lw_V q1558 q1559 q1560 q64 q1561) (by decide +kernel) (by decide) ⟨by omega, by omega⟩ rfl rfl (Nat.le_of_ble_eq_true rfl) dL_law_1639 ?_
  refine A_icmp_eq (t := 2176) (x := r) (y := r) (G := gX G (k) (n) (LwP X0 X1 τ')) (st := []) Γ dL_law_1642 (by decide) (fun _ => ?_) (fun w => absurd rfl w)
  exact L_up (K (xad X0) σ' τ' e4)
set_option maxHeartbeats 4000000 in
set_option maxRecDepth 100000 in
theorem lc_40 {G : Gx} {X0 X1 : Xw} {σ τ : St} {k n i L b : Nat} {xs : Nat → Int32} (Γ : Ok G R_law code 4) (Λ : LK G X0 X1) (C : LC G b L xs) (hR : R σ τ) (hi : i + 7 ≤ L) (hk : k + 3 ≤ 603072 ∧ n + 2010 ≤ 7262314) (K : ∀ (ad : Nat → Nat) (σ' τ' : St), R σ' τ' → At (gX G (k + 3) (n + 2010) (LwP (xUp X0 ad) X1 τ')) 4 σ' (lvi i X0 X1 b) [] 2176) : At (gX G k n (LwP X0 X1 τ)) 4 σ (lvi i X0 X1 b) [] 1647 := by
  obtain ⟨⟨r, σ'⟩, ⟨r', τ'⟩, e1, e2, e3, e4⟩ := s_hands hR (xs (i + 1))
  dsimp only at e3 e4
  subst e3
  refine A_aload_n Γ dL_law_1647 2 rfl ?_
  refine L_arg (m := 1) (j := 1) (X0 := X0) (X1 := X1) Γ C (by decide) (by omega) dL_law_1648 dL_law_1649 dL_law_1650 dL_law_1651 dL_law_1652 ?_
  refine L_call0 (X0 := X0) (As := [.int (xs (i + 1))]) (nn := 1) Γ Λ (fun X => mtX0_hands (gl G) X e1) (lw_V q935 q936 q937 q63 q938) (by decide +kernel) (by decide) ⟨by omega, by omega⟩ rfl rfl (Nat.le_of_ble_eq_true rfl) dL_law_1653 ?_
  refine A_aload_n Γ dL_law_1656 1 rfl ?_
  refine L_arg (m := 1) (j := 1) (X0 := X0) (X1 := X1) Γ C (by decide) (by omega) dL_law_1657 dL_law_1658 dL_law_1659 dL_law_1660 dL_law_1661 ?_
  refine L_call1 (X0 := X0) (As := [.int (xs (i + 1))]) (nn := 1) Γ Λ (fun X => mtX1_hands (gl G) X e2) (lw_V q1566 q1567 q1568 q64 q1569) (by decide +kernel) (by decide) ⟨by omega, by omega⟩ rfl rfl (Nat.le_of_ble_eq_true rfl) dL_law_1662 ?_
  refine A_icmp_eq (t := 2176) (x := r) (y := r) (G := gX G (k) (n) (LwP X0 X1 τ')) (st := []) Γ dL_law_1665 (by decide) (fun _ => ?_) (fun w => absurd rfl w)
  exact L_up (K (xad X0) σ' τ' e4)
set_option maxHeartbeats 4000000 in
set_option maxRecDepth 100000 in
theorem lc_41 {G : Gx} {X0 X1 : Xw} {σ τ : St} {k n i L b : Nat} {xs : Nat → Int32} (Γ : Ok G R_law code 4) (Λ : LK G X0 X1) (C : LC G b L xs) (hR : R σ τ) (hi : i + 7 ≤ L) (hk : k + 3 ≤ 603072 ∧ n + 2010 ≤ 7262314) (K : ∀ (ad : Nat → Nat) (σ' τ' : St), R σ' τ' → At (gX G (k + 3) (n + 2010) (LwP (xUp X0 ad) X1 τ')) 4 σ' (lvi i X0 X1 b) [] 2176) : At (gX G k n (LwP X0 X1 τ)) 4 σ (lvi i X0 X1 b) [] 1670 := by
  obtain ⟨⟨r, σ'⟩, ⟨r', τ'⟩, e1, e2, e3, e4⟩ := s_swap hR (xs (i + 1)) (xs (i + 2)) (xs (i + 3)) (xs (i + 4))
  dsimp only at e3 e4
  subst e3
  refine A_aload_n Γ dL_law_1670 2 rfl ?_
  refine L_arg (m := 1) (j := 1) (X0 := X0) (X1 := X1) Γ C (by decide) (by omega) dL_law_1671 dL_law_1672 dL_law_1673 dL_law_1674 dL_law_1675 ?_
  refine L_arg (m := 2) (j := 2) (X0 := X0) (X1 := X1) Γ C (by decide) (by omega) dL_law_1676 dL_law_1677 dL_law_1678 dL_law_1679 dL_law_1680 ?_
  refine L_arg (m := 3) (j := 3) (X0 := X0) (X1 := X1) Γ C (by decide) (by omega) dL_law_1681 dL_law_1682 dL_law_1683 dL_law_1684 dL_law_1685 ?_
  refine L_arg (m := 4) (j := 4) (X0 := X0) (X1 := X1) Γ C (by decide) (by omega) dL_law_1686 dL_law_1687 dL_law_1688 dL_law_1689 dL_law_1690 ?_
  refine L_call0 (X0 := X0) (As := [.int (xs (i + 1)), .int (xs (i + 2)), .int (xs (i + 3)), .int (xs (i + 4))]) (nn := 4) Γ Λ (fun X => mtX0_swap (gl G) X e1) (lw_V q949 q950 q951 q63 q952) (by decide +kernel) (by decide) ⟨by omega, by omega⟩ rfl rfl (Nat.le_of_ble_eq_true rfl) dL_law_1691 ?_
  refine A_aload_n Γ dL_law_1694 1 rfl ?_
  refine L_arg (m := 1) (j := 1) (X0 := X0) (X1 := X1) Γ C (by decide) (by omega) dL_law_1695 dL_law_1696 dL_law_1697 dL_law_1698 dL_law_1699 ?_
  refine L_arg (m := 2) (j := 2) (X0 := X0) (X1 := X1) Γ C (by decide) (by omega) dL_law_1700 dL_law_1701 dL_law_1702 dL_law_1703 dL_law_1704 ?_
  refine L_arg (m := 3) (j := 3) (X0 := X0) (X1 := X1) Γ C (by decide) (by omega) dL_law_1705 dL_law_1706 dL_law_1707 dL_law_1708 dL_law_1709 ?_
  refine L_arg (m := 4) (j := 4) (X0 := X0) (X1 := X1) Γ C (by decide) (by omega) dL_law_1710 dL_law_1711 dL_law_1712 dL_law_1713 dL_law_1714 ?_
  refine L_call1 (X0 := X0) (As := [.int (xs (i + 1)), .int (xs (i + 2)), .int (xs (i + 3)), .int (xs (i + 4))]) (nn := 4) Γ Λ (fun X => mtX1_swap (gl G) X e2) (lw_V q1573 q1574 q1575 q64 q1576) (by decide +kernel) (by decide) ⟨by omega, by omega⟩ rfl rfl (Nat.le_of_ble_eq_true rfl) dL_law_1715 ?_
  refine A_icmp_eq (t := 2176) (x := r) (y := r) (G := gX G (k) (n) (LwP X0 X1 τ')) (st := []) Γ dL_law_1718 (by decide) (fun _ => ?_) (fun w => absurd rfl w)
  exact L_up (K (xad X0) σ' τ' e4)
set_option maxHeartbeats 4000000 in
set_option maxRecDepth 100000 in
theorem lc_42 {G : Gx} {X0 X1 : Xw} {σ τ : St} {k n i L b : Nat} {xs : Nat → Int32} (Γ : Ok G R_law code 4) (Λ : LK G X0 X1) (C : LC G b L xs) (hR : R σ τ) (hi : i + 7 ≤ L) (hk : k + 3 ≤ 603072 ∧ n + 2010 ≤ 7262314) (K : ∀ (ad : Nat → Nat) (σ' τ' : St), R σ' τ' → At (gX G (k + 3) (n + 2010) (LwP (xUp X0 ad) X1 τ')) 4 σ' (lvi i X0 X1 b) [] 2176) : At (gX G k n (LwP X0 X1 τ)) 4 σ (lvi i X0 X1 b) [] 1723 := by
  obtain ⟨⟨r, σ'⟩, ⟨r', τ'⟩, e1, e2, e3, e4⟩ := s_pairs hR (xs (i + 1)) (xs (i + 2))
  dsimp only at e3 e4
  subst e3
  refine A_aload_n Γ dL_law_1723 2 rfl ?_
  refine L_arg (m := 1) (j := 1) (X0 := X0) (X1 := X1) Γ C (by decide) (by omega) dL_law_1724 dL_law_1725 dL_law_1726 dL_law_1727 dL_law_1728 ?_
  refine L_arg (m := 2) (j := 2) (X0 := X0) (X1 := X1) Γ C (by decide) (by omega) dL_law_1729 dL_law_1730 dL_law_1731 dL_law_1732 dL_law_1733 ?_
  refine L_call0 (X0 := X0) (As := [.int (xs (i + 1)), .int (xs (i + 2))]) (nn := 2) Γ Λ (fun X => mtX0_pairs (gl G) X e1) (lw_V q965 q966 q967 q63 q968) (by decide +kernel) (by decide) ⟨by omega, by omega⟩ rfl rfl (Nat.le_of_ble_eq_true rfl) dL_law_1734 ?_
  refine A_aload_n Γ dL_law_1737 1 rfl ?_
  refine L_arg (m := 1) (j := 1) (X0 := X0) (X1 := X1) Γ C (by decide) (by omega) dL_law_1738 dL_law_1739 dL_law_1740 dL_law_1741 dL_law_1742 ?_
  refine L_arg (m := 2) (j := 2) (X0 := X0) (X1 := X1) Γ C (by decide) (by omega) dL_law_1743 dL_law_1744 dL_law_1745 dL_law_1746 dL_law_1747 ?_
  refine L_call1 (X0 := X0) (As := [.int (xs (i + 1)), .int (xs (i + 2))]) (nn := 2) Γ Λ (fun X => mtX1_pairs (gl G) X e2) (lw_V q1589 q1590 q1591 q64 q1592) (by decide +kernel) (by decide) ⟨by omega, by omega⟩ rfl rfl (Nat.le_of_ble_eq_true rfl) dL_law_1748 ?_
  refine A_icmp_eq (t := 2176) (x := r) (y := r) (G := gX G (k) (n) (LwP X0 X1 τ')) (st := []) Γ dL_law_1751 (by decide) (fun _ => ?_) (fun w => absurd rfl w)
  exact L_up (K (xad X0) σ' τ' e4)
set_option maxHeartbeats 4000000 in
set_option maxRecDepth 100000 in
theorem lc_43 {G : Gx} {X0 X1 : Xw} {σ τ : St} {k n i L b : Nat} {xs : Nat → Int32} (Γ : Ok G R_law code 4) (Λ : LK G X0 X1) (C : LC G b L xs) (hR : R σ τ) (hi : i + 7 ≤ L) (hk : k + 3 ≤ 603072 ∧ n + 2010 ≤ 7262314) (K : ∀ (ad : Nat → Nat) (σ' τ' : St), R σ' τ' → At (gX G (k + 3) (n + 2010) (LwP (xUp X0 ad) X1 τ')) 4 σ' (lvi i X0 X1 b) [] 2176) : At (gX G k n (LwP X0 X1 τ)) 4 σ (lvi i X0 X1 b) [] 1756 := by
  obtain ⟨r, r', e1, e2, rfl⟩ := s_partner hR (xs (i + 1))
  refine A_aload_n Γ dL_law_1756 2 rfl ?_
  refine L_arg (m := 1) (j := 1) (X0 := X0) (X1 := X1) Γ C (by decide) (by omega) dL_law_1757 dL_law_1758 dL_law_1759 dL_law_1760 dL_law_1761 ?_
  refine L_call0 (X0 := X0) (As := [.int (xs (i + 1))]) (nn := 1) Γ Λ (fun X => mtX0_partner (gl G) X e1) (lw_V q973 q974 q975 q63 q976) (by decide +kernel) (by decide) ⟨by omega, by omega⟩ rfl rfl (Nat.le_of_ble_eq_true rfl) dL_law_1762 ?_
  refine A_aload_n Γ dL_law_1765 1 rfl ?_
  refine L_arg (m := 1) (j := 1) (X0 := X0) (X1 := X1) Γ C (by decide) (by omega) dL_law_1766 dL_law_1767 dL_law_1768 dL_law_1769 dL_law_1770 ?_
  refine L_call1 (X0 := X0) (As := [.int (xs (i + 1))]) (nn := 1) Γ Λ (fun X => mtX1_partner (gl G) X e2) (lw_V q1601 q1602 q1603 q64 q1604) (by decide +kernel) (by decide) ⟨by omega, by omega⟩ rfl rfl (Nat.le_of_ble_eq_true rfl) dL_law_1771 ?_
  refine A_icmp_eq (t := 2176) (x := r) (y := r) (G := gX G (k) (n) (LwP X0 X1 τ)) (st := []) Γ dL_law_1774 (by decide) (fun _ => ?_) (fun w => absurd rfl w)
  exact L_up (K (xad X0) σ τ hR)
set_option maxHeartbeats 4000000 in
set_option maxRecDepth 100000 in
theorem lc_44 {G : Gx} {X0 X1 : Xw} {σ τ : St} {k n i L b : Nat} {xs : Nat → Int32} (Γ : Ok G R_law code 4) (Λ : LK G X0 X1) (C : LC G b L xs) (hR : R σ τ) (hi : i + 7 ≤ L) (hk : k + 3 ≤ 603072 ∧ n + 2010 ≤ 7262314) (K : ∀ (ad : Nat → Nat) (σ' τ' : St), R σ' τ' → At (gX G (k + 3) (n + 2010) (LwP (xUp X0 ad) X1 τ')) 4 σ' (lvi i X0 X1 b) [] 2176) : At (gX G k n (LwP X0 X1 τ)) 4 σ (lvi i X0 X1 b) [] 1779 := by
  obtain ⟨⟨r, σ'⟩, ⟨r', τ'⟩, e1, e2, e3, e4⟩ := s_late hR (xs (i + 1)) (xs (i + 2)) (xs (i + 3)) (xs (i + 4)) (xs (i + 5)) (xs (i + 6))
  dsimp only at e3 e4
  subst e3
  refine A_aload_n Γ dL_law_1779 2 rfl ?_
  refine L_arg (m := 1) (j := 1) (X0 := X0) (X1 := X1) Γ C (by decide) (by omega) dL_law_1780 dL_law_1781 dL_law_1782 dL_law_1783 dL_law_1784 ?_
  refine L_arg (m := 2) (j := 2) (X0 := X0) (X1 := X1) Γ C (by decide) (by omega) dL_law_1785 dL_law_1786 dL_law_1787 dL_law_1788 dL_law_1789 ?_
  refine L_arg (m := 3) (j := 3) (X0 := X0) (X1 := X1) Γ C (by decide) (by omega) dL_law_1790 dL_law_1791 dL_law_1792 dL_law_1793 dL_law_1794 ?_
  refine L_arg (m := 4) (j := 4) (X0 := X0) (X1 := X1) Γ C (by decide) (by omega) dL_law_1795 dL_law_1796 dL_law_1797 dL_law_1798 dL_law_1799 ?_
  refine L_arg (m := 5) (j := 5) (X0 := X0) (X1 := X1) Γ C (by decide) (by omega) dL_law_1800 dL_law_1801 dL_law_1802 dL_law_1803 dL_law_1804 ?_
  refine L_argB (m := 6) (j := 6) (X0 := X0) (X1 := X1) Γ C (by decide) (by omega) dL_law_1805 dL_law_1806 dL_law_1807 dL_law_1809 dL_law_1810 ?_
  refine L_call0 (X0 := X0) (As := [.int (xs (i + 1)), .int (xs (i + 2)), .int (xs (i + 3)), .int (xs (i + 4)), .int (xs (i + 5)), .int (xs (i + 6))]) (nn := 6) Γ Λ (fun X => mtX0_late (gl G) X e1) (lw_V q977 q978 q979 q63 q980) (by decide +kernel) (by decide) ⟨by omega, by omega⟩ rfl rfl (Nat.le_of_ble_eq_true rfl) dL_law_1811 ?_
  refine A_aload_n Γ dL_law_1814 1 rfl ?_
  refine L_arg (m := 1) (j := 1) (X0 := X0) (X1 := X1) Γ C (by decide) (by omega) dL_law_1815 dL_law_1816 dL_law_1817 dL_law_1818 dL_law_1819 ?_
  refine L_arg (m := 2) (j := 2) (X0 := X0) (X1 := X1) Γ C (by decide) (by omega) dL_law_1820 dL_law_1821 dL_law_1822 dL_law_1823 dL_law_1824 ?_
  refine L_arg (m := 3) (j := 3) (X0 := X0) (X1 := X1) Γ C (by decide) (by omega) dL_law_1825 dL_law_1826 dL_law_1827 dL_law_1828 dL_law_1829 ?_
  refine L_arg (m := 4) (j := 4) (X0 := X0) (X1 := X1) Γ C (by decide) (by omega) dL_law_1830 dL_law_1831 dL_law_1832 dL_law_1833 dL_law_1834 ?_
  refine L_arg (m := 5) (j := 5) (X0 := X0) (X1 := X1) Γ C (by decide) (by omega) dL_law_1835 dL_law_1836 dL_law_1837 dL_law_1838 dL_law_1839 ?_
  refine L_argB (m := 6) (j := 6) (X0 := X0) (X1 := X1) Γ C (by decide) (by omega) dL_law_1840 dL_law_1841 dL_law_1842 dL_law_1844 dL_law_1845 ?_
  refine L_call1 (X0 := X0) (As := [.int (xs (i + 1)), .int (xs (i + 2)), .int (xs (i + 3)), .int (xs (i + 4)), .int (xs (i + 5)), .int (xs (i + 6))]) (nn := 6) Γ Λ (fun X => mtX1_late (gl G) X e2) (lw_V q1605 q1606 q1607 q64 q1608) (by decide +kernel) (by decide) ⟨by omega, by omega⟩ rfl rfl (Nat.le_of_ble_eq_true rfl) dL_law_1846 ?_
  refine A_icmp_eq (t := 2176) (x := r) (y := r) (G := gX G (k) (n) (LwP X0 X1 τ')) (st := []) Γ dL_law_1849 (by decide) (fun _ => ?_) (fun w => absurd rfl w)
  exact L_up (K (xad X0) σ' τ' e4)
set_option maxHeartbeats 4000000 in
set_option maxRecDepth 100000 in
theorem lc_45 {G : Gx} {X0 X1 : Xw} {σ τ : St} {k n i L b : Nat} {xs : Nat → Int32} (Γ : Ok G R_law code 4) (Λ : LK G X0 X1) (C : LC G b L xs) (hR : R σ τ) (hi : i + 7 ≤ L) (hk : k + 3 ≤ 603072 ∧ n + 2010 ≤ 7262314) (K : ∀ (ad : Nat → Nat) (σ' τ' : St), R σ' τ' → At (gX G (k + 3) (n + 2010) (LwP (xUp X0 ad) X1 τ')) 4 σ' (lvi i X0 X1 b) [] 2176) : At (gX G k n (LwP X0 X1 τ)) 4 σ (lvi i X0 X1 b) [] 1854 := by
  obtain ⟨⟨r, σ'⟩, ⟨r', τ'⟩, e1, e2, e3, e4⟩ := s_canBe hR (xs (i + 1))
  dsimp only at e3 e4
  subst e3
  refine A_aload_n Γ dL_law_1854 2 rfl ?_
  refine L_arg (m := 1) (j := 1) (X0 := X0) (X1 := X1) Γ C (by decide) (by omega) dL_law_1855 dL_law_1856 dL_law_1857 dL_law_1858 dL_law_1859 ?_
  refine L_call0 (X0 := X0) (As := [.int (xs (i + 1))]) (nn := 1) Γ Λ (fun X => mtX0_canBe (gl G) X e1) (lw_V q982 q983 q984 q63 q985) (by decide +kernel) (by decide) ⟨by omega, by omega⟩ rfl rfl (Nat.le_of_ble_eq_true rfl) dL_law_1860 ?_
  refine A_aload_n Γ dL_law_1863 1 rfl ?_
  refine L_arg (m := 1) (j := 1) (X0 := X0) (X1 := X1) Γ C (by decide) (by omega) dL_law_1864 dL_law_1865 dL_law_1866 dL_law_1867 dL_law_1868 ?_
  refine L_call1 (X0 := X0) (As := [.int (xs (i + 1))]) (nn := 1) Γ Λ (fun X => mtX1_canBe (gl G) X e2) (lw_V q1610 q1611 q1612 q64 q1613) (by decide +kernel) (by decide) ⟨by omega, by omega⟩ rfl rfl (Nat.le_of_ble_eq_true rfl) dL_law_1869 ?_
  refine A_icmp_eq (t := 2176) (x := r) (y := r) (G := gX G (k) (n) (LwP X0 X1 τ')) (st := []) Γ dL_law_1872 (by decide) (fun _ => ?_) (fun w => absurd rfl w)
  exact L_up (K (xad X0) σ' τ' e4)
set_option maxHeartbeats 4000000 in
set_option maxRecDepth 100000 in
theorem lc_46 {G : Gx} {X0 X1 : Xw} {σ τ : St} {k n i L b : Nat} {xs : Nat → Int32} (Γ : Ok G R_law code 4) (Λ : LK G X0 X1) (C : LC G b L xs) (hR : R σ τ) (hi : i + 7 ≤ L) (hk : k + 3 ≤ 603072 ∧ n + 2010 ≤ 7262314) (K : ∀ (ad : Nat → Nat) (σ' τ' : St), R σ' τ' → At (gX G (k + 3) (n + 2010) (LwP (xUp X0 ad) X1 τ')) 4 σ' (lvi i X0 X1 b) [] 2176) : At (gX G k n (LwP X0 X1 τ)) 4 σ (lvi i X0 X1 b) [] 1877 := by
  obtain ⟨⟨r, σ'⟩, ⟨r', τ'⟩, e1, e2, e3, e4⟩ := s_look hR (xs (i + 1)) (xs (i + 2)) (xs (i + 3))
  dsimp only at e3 e4
  subst e3
  refine A_aload_n Γ dL_law_1877 2 rfl ?_
  refine L_arg (m := 1) (j := 1) (X0 := X0) (X1 := X1) Γ C (by decide) (by omega) dL_law_1878 dL_law_1879 dL_law_1880 dL_law_1881 dL_law_1882 ?_
  refine L_arg (m := 2) (j := 2) (X0 := X0) (X1 := X1) Γ C (by decide) (by omega) dL_law_1883 dL_law_1884 dL_law_1885 dL_law_1886 dL_law_1887 ?_
  refine L_arg (m := 3) (j := 3) (X0 := X0) (X1 := X1) Γ C (by decide) (by omega) dL_law_1888 dL_law_1889 dL_law_1890 dL_law_1891 dL_law_1892 ?_
  refine L_call0 (X0 := X0) (As := [.int (xs (i + 1)), .int (xs (i + 2)), .int (xs (i + 3))]) (nn := 3) Γ Λ (fun X => mtX0_look (gl G) X e1) (lw_V q994 q995 q996 q63 q997) (by decide +kernel) (by decide) ⟨by omega, by omega⟩ rfl rfl (Nat.le_of_ble_eq_true rfl) dL_law_1893 ?_
  refine A_aload_n Γ dL_law_1896 1 rfl ?_
  refine L_arg (m := 1) (j := 1) (X0 := X0) (X1 := X1) Γ C (by decide) (by omega) dL_law_1897 dL_law_1898 dL_law_1899 dL_law_1900 dL_law_1901 ?_
  refine L_arg (m := 2) (j := 2) (X0 := X0) (X1 := X1) Γ C (by decide) (by omega) dL_law_1902 dL_law_1903 dL_law_1904 dL_law_1905 dL_law_1906 ?_
  refine L_arg (m := 3) (j := 3) (X0 := X0) (X1 := X1) Γ C (by decide) (by omega) dL_law_1907 dL_law_1908 dL_law_1909 dL_law_1910 dL_law_1911 ?_
  refine L_call1 (X0 := X0) (As := [.int (xs (i + 1)), .int (xs (i + 2)), .int (xs (i + 3))]) (nn := 3) Γ Λ (fun X => mtX1_look (gl G) X e2) (lw_V q1618 q1619 q1620 q64 q1621) (by decide +kernel) (by decide) ⟨by omega, by omega⟩ rfl rfl (Nat.le_of_ble_eq_true rfl) dL_law_1912 ?_
  refine A_icmp_eq (t := 2176) (x := r) (y := r) (G := gX G (k) (n) (LwP X0 X1 τ')) (st := []) Γ dL_law_1915 (by decide) (fun _ => ?_) (fun w => absurd rfl w)
  exact L_up (K (xad X0) σ' τ' e4)
set_option maxHeartbeats 4000000 in
set_option maxRecDepth 100000 in
theorem lc_47 {G : Gx} {X0 X1 : Xw} {σ τ : St} {k n i L b : Nat} {xs : Nat → Int32} (Γ : Ok G R_law code 4) (Λ : LK G X0 X1) (C : LC G b L xs) (hR : R σ τ) (hi : i + 7 ≤ L) (hk : k + 3 ≤ 603072 ∧ n + 2010 ≤ 7262314) (K : ∀ (ad : Nat → Nat) (σ' τ' : St), R σ' τ' → At (gX G (k + 3) (n + 2010) (LwP (xUp X0 ad) X1 τ')) 4 σ' (lvi i X0 X1 b) [] 2176) : At (gX G k n (LwP X0 X1 τ)) 4 σ (lvi i X0 X1 b) [] 1920 := by
  obtain ⟨r, r', e1, e2, rfl⟩ := s_looked hR (xs (i + 1))
  refine A_aload_n Γ dL_law_1920 2 rfl ?_
  refine L_arg (m := 1) (j := 1) (X0 := X0) (X1 := X1) Γ C (by decide) (by omega) dL_law_1921 dL_law_1922 dL_law_1923 dL_law_1924 dL_law_1925 ?_
  refine L_call0 (X0 := X0) (As := [.int (xs (i + 1))]) (nn := 1) Γ Λ (fun X => mtX0_looked (gl G) X e1) (lw_V q1002 q1003 q1004 q63 q1005) (by decide +kernel) (by decide) ⟨by omega, by omega⟩ rfl rfl (Nat.le_of_ble_eq_true rfl) dL_law_1926 ?_
  refine A_aload_n Γ dL_law_1929 1 rfl ?_
  refine L_arg (m := 1) (j := 1) (X0 := X0) (X1 := X1) Γ C (by decide) (by omega) dL_law_1930 dL_law_1931 dL_law_1932 dL_law_1933 dL_law_1934 ?_
  refine L_call1 (X0 := X0) (As := [.int (xs (i + 1))]) (nn := 1) Γ Λ (fun X => mtX1_looked (gl G) X e2) (lw_V q1626 q1627 q1628 q64 q1629) (by decide +kernel) (by decide) ⟨by omega, by omega⟩ rfl rfl (Nat.le_of_ble_eq_true rfl) dL_law_1935 ?_
  refine A_icmp_eq (t := 2176) (x := r) (y := r) (G := gX G (k) (n) (LwP X0 X1 τ)) (st := []) Γ dL_law_1938 (by decide) (fun _ => ?_) (fun w => absurd rfl w)
  exact L_up (K (xad X0) σ τ hR)
set_option maxHeartbeats 4000000 in
set_option maxRecDepth 100000 in
theorem lc_48 {G : Gx} {X0 X1 : Xw} {σ τ : St} {k n i L b : Nat} {xs : Nat → Int32} (Γ : Ok G R_law code 4) (Λ : LK G X0 X1) (C : LC G b L xs) (hR : R σ τ) (hi : i + 7 ≤ L) (hk : k + 3 ≤ 603072 ∧ n + 2010 ≤ 7262314) (K : ∀ (ad : Nat → Nat) (σ' τ' : St), R σ' τ' → At (gX G (k + 3) (n + 2010) (LwP (xUp X0 ad) X1 τ')) 4 σ' (lvi i X0 X1 b) [] 2176) : At (gX G k n (LwP X0 X1 τ)) 4 σ (lvi i X0 X1 b) [] 1943 := by
  obtain ⟨⟨r, σ'⟩, ⟨r', τ'⟩, e1, e2, e3, e4⟩ := s_pool hR (xs (i + 1)) (xs (i + 2))
  dsimp only at e3 e4
  subst e3
  refine A_aload_n Γ dL_law_1943 2 rfl ?_
  refine L_arg (m := 1) (j := 1) (X0 := X0) (X1 := X1) Γ C (by decide) (by omega) dL_law_1944 dL_law_1945 dL_law_1946 dL_law_1947 dL_law_1948 ?_
  refine L_arg (m := 2) (j := 2) (X0 := X0) (X1 := X1) Γ C (by decide) (by omega) dL_law_1949 dL_law_1950 dL_law_1951 dL_law_1952 dL_law_1953 ?_
  refine L_call0 (X0 := X0) (As := [.int (xs (i + 1)), .int (xs (i + 2))]) (nn := 2) Γ Λ (fun X => mtX0_pool (gl G) X e1) (lw_V q1006 q1007 q1008 q63 q1009) (by decide +kernel) (by decide) ⟨by omega, by omega⟩ rfl rfl (Nat.le_of_ble_eq_true rfl) dL_law_1954 ?_
  refine A_aload_n Γ dL_law_1957 1 rfl ?_
  refine L_arg (m := 1) (j := 1) (X0 := X0) (X1 := X1) Γ C (by decide) (by omega) dL_law_1958 dL_law_1959 dL_law_1960 dL_law_1961 dL_law_1962 ?_
  refine L_arg (m := 2) (j := 2) (X0 := X0) (X1 := X1) Γ C (by decide) (by omega) dL_law_1963 dL_law_1964 dL_law_1965 dL_law_1966 dL_law_1967 ?_
  refine L_call1 (X0 := X0) (As := [.int (xs (i + 1)), .int (xs (i + 2))]) (nn := 2) Γ Λ (fun X => mtX1_pool (gl G) X e2) (lw_V q1630 q1631 q1632 q64 q1633) (by decide +kernel) (by decide) ⟨by omega, by omega⟩ rfl rfl (Nat.le_of_ble_eq_true rfl) dL_law_1968 ?_
  refine A_icmp_eq (t := 2176) (x := r) (y := r) (G := gX G (k) (n) (LwP X0 X1 τ')) (st := []) Γ dL_law_1971 (by decide) (fun _ => ?_) (fun w => absurd rfl w)
  exact L_up (K (xad X0) σ' τ' e4)
set_option maxHeartbeats 4000000 in
set_option maxRecDepth 100000 in
theorem lc_49 {G : Gx} {X0 X1 : Xw} {σ τ : St} {k n i L b : Nat} {xs : Nat → Int32} (Γ : Ok G R_law code 4) (Λ : LK G X0 X1) (C : LC G b L xs) (hR : R σ τ) (hi : i + 7 ≤ L) (hk : k + 3 ≤ 603072 ∧ n + 2010 ≤ 7262314) (K : ∀ (ad : Nat → Nat) (σ' τ' : St), R σ' τ' → At (gX G (k + 3) (n + 2010) (LwP (xUp X0 ad) X1 τ')) 4 σ' (lvi i X0 X1 b) [] 2176) : At (gX G k n (LwP X0 X1 τ)) 4 σ (lvi i X0 X1 b) [] 1976 := by
  obtain ⟨⟨r, σ'⟩, ⟨r', τ'⟩, e1, e2, e3, e4⟩ := s_rent hR (xs (i + 1)) (xs (i + 2)) (xs (i + 3)) (xs (i + 4)) (xs (i + 5))
  dsimp only at e3 e4
  subst e3
  refine A_aload_n Γ dL_law_1976 2 rfl ?_
  refine L_arg (m := 1) (j := 1) (X0 := X0) (X1 := X1) Γ C (by decide) (by omega) dL_law_1977 dL_law_1978 dL_law_1979 dL_law_1980 dL_law_1981 ?_
  refine L_arg (m := 2) (j := 2) (X0 := X0) (X1 := X1) Γ C (by decide) (by omega) dL_law_1982 dL_law_1983 dL_law_1984 dL_law_1985 dL_law_1986 ?_
  refine L_arg (m := 3) (j := 3) (X0 := X0) (X1 := X1) Γ C (by decide) (by omega) dL_law_1987 dL_law_1988 dL_law_1989 dL_law_1990 dL_law_1991 ?_
  refine L_arg (m := 4) (j := 4) (X0 := X0) (X1 := X1) Γ C (by decide) (by omega) dL_law_1992 dL_law_1993 dL_law_1994 dL_law_1995 dL_law_1996 ?_
  refine L_arg (m := 5) (j := 5) (X0 := X0) (X1 := X1) Γ C (by decide) (by omega) dL_law_1997 dL_law_1998 dL_law_1999 dL_law_2000 dL_law_2001 ?_
  refine L_call0 (X0 := X0) (As := [.int (xs (i + 1)), .int (xs (i + 2)), .int (xs (i + 3)), .int (xs (i + 4)), .int (xs (i + 5))]) (nn := 5) Γ Λ (fun X => mtX0_rent (gl G) X e1) (lw_V q1019 q1020 q1021 q63 q1022) (by decide +kernel) (by decide) ⟨by omega, by omega⟩ rfl rfl (Nat.le_of_ble_eq_true rfl) dL_law_2002 ?_
  refine A_aload_n Γ dL_law_2005 1 rfl ?_
  refine L_arg (m := 1) (j := 1) (X0 := X0) (X1 := X1) Γ C (by decide) (by omega) dL_law_2006 dL_law_2007 dL_law_2008 dL_law_2009 dL_law_2010 ?_
  refine L_arg (m := 2) (j := 2) (X0 := X0) (X1 := X1) Γ C (by decide) (by omega) dL_law_2011 dL_law_2012 dL_law_2013 dL_law_2014 dL_law_2015 ?_
  refine L_arg (m := 3) (j := 3) (X0 := X0) (X1 := X1) Γ C (by decide) (by omega) dL_law_2016 dL_law_2017 dL_law_2018 dL_law_2019 dL_law_2020 ?_
  refine L_arg (m := 4) (j := 4) (X0 := X0) (X1 := X1) Γ C (by decide) (by omega) dL_law_2021 dL_law_2022 dL_law_2023 dL_law_2024 dL_law_2025 ?_
  refine L_arg (m := 5) (j := 5) (X0 := X0) (X1 := X1) Γ C (by decide) (by omega) dL_law_2026 dL_law_2027 dL_law_2028 dL_law_2029 dL_law_2030 ?_
  refine L_call1 (X0 := X0) (As := [.int (xs (i + 1)), .int (xs (i + 2)), .int (xs (i + 3)), .int (xs (i + 4)), .int (xs (i + 5))]) (nn := 5) Γ Λ (fun X => mtX1_rent (gl G) X e2) (lw_V q1638 q1639 q1640 q64 q1641) (by decide +kernel) (by decide) ⟨by omega, by omega⟩ rfl rfl (Nat.le_of_ble_eq_true rfl) dL_law_2031 ?_
  refine A_icmp_eq (t := 2176) (x := r) (y := r) (G := gX G (k) (n) (LwP X0 X1 τ')) (st := []) Γ dL_law_2034 (by decide) (fun _ => ?_) (fun w => absurd rfl w)
  exact L_up (K (xad X0) σ' τ' e4)
set_option maxHeartbeats 4000000 in
set_option maxRecDepth 100000 in
theorem lc_50 {G : Gx} {X0 X1 : Xw} {σ τ : St} {k n i L b : Nat} {xs : Nat → Int32} (Γ : Ok G R_law code 4) (Λ : LK G X0 X1) (C : LC G b L xs) (hR : R σ τ) (hi : i + 7 ≤ L) (hk : k + 3 ≤ 603072 ∧ n + 2010 ≤ 7262314) (K : ∀ (ad : Nat → Nat) (σ' τ' : St), R σ' τ' → At (gX G (k + 3) (n + 2010) (LwP (xUp X0 ad) X1 τ')) 4 σ' (lvi i X0 X1 b) [] 2176) : At (gX G k n (LwP X0 X1 τ)) 4 σ (lvi i X0 X1 b) [] 2039 := by
  obtain ⟨r, r', e1, e2, rfl⟩ := s_rented hR (xs (i + 1))
  refine A_aload_n Γ dL_law_2039 2 rfl ?_
  refine L_arg (m := 1) (j := 1) (X0 := X0) (X1 := X1) Γ C (by decide) (by omega) dL_law_2040 dL_law_2041 dL_law_2042 dL_law_2043 dL_law_2044 ?_
  refine L_call0 (X0 := X0) (As := [.int (xs (i + 1))]) (nn := 1) Γ Λ (fun X => mtX0_rented (gl G) X e1) (lw_V q1027 q1028 q1029 q63 q1030) (by decide +kernel) (by decide) ⟨by omega, by omega⟩ rfl rfl (Nat.le_of_ble_eq_true rfl) dL_law_2045 ?_
  refine A_aload_n Γ dL_law_2048 1 rfl ?_
  refine L_arg (m := 1) (j := 1) (X0 := X0) (X1 := X1) Γ C (by decide) (by omega) dL_law_2049 dL_law_2050 dL_law_2051 dL_law_2052 dL_law_2053 ?_
  refine L_call1 (X0 := X0) (As := [.int (xs (i + 1))]) (nn := 1) Γ Λ (fun X => mtX1_rented (gl G) X e2) (lw_V q1646 q1647 q1648 q64 q1649) (by decide +kernel) (by decide) ⟨by omega, by omega⟩ rfl rfl (Nat.le_of_ble_eq_true rfl) dL_law_2054 ?_
  refine A_icmp_eq (t := 2176) (x := r) (y := r) (G := gX G (k) (n) (LwP X0 X1 τ)) (st := []) Γ dL_law_2057 (by decide) (fun _ => ?_) (fun w => absurd rfl w)
  exact L_up (K (xad X0) σ τ hR)
set_option maxHeartbeats 4000000 in
set_option maxRecDepth 100000 in
theorem lc_51 {G : Gx} {X0 X1 : Xw} {σ τ : St} {k n i L b : Nat} {xs : Nat → Int32} (Γ : Ok G R_law code 4) (Λ : LK G X0 X1) (C : LC G b L xs) (hR : R σ τ) (hi : i + 7 ≤ L) (hk : k + 3 ≤ 603072 ∧ n + 2010 ≤ 7262314) (K : ∀ (ad : Nat → Nat) (σ' τ' : St), R σ' τ' → At (gX G (k + 3) (n + 2010) (LwP (xUp X0 ad) X1 τ')) 4 σ' (lvi i X0 X1 b) [] 2176) : At (gX G k n (LwP X0 X1 τ)) 4 σ (lvi i X0 X1 b) [] 2062 := by
  obtain ⟨r, r', e1, e2, rfl⟩ := s_asked hR 
  refine A_aload_n Γ dL_law_2062 2 rfl ?_
  refine L_call0 (X0 := X0) (As := []) (nn := 0) Γ Λ (fun X => mtX0_asked (gl G) X e1) (lw_V q82 q83 q84 q63 q85) (by decide +kernel) (by decide) ⟨by omega, by omega⟩ rfl rfl (Nat.le_of_ble_eq_true rfl) dL_law_2063 ?_
  refine A_aload_n Γ dL_law_2066 1 rfl ?_
  refine L_call1 (X0 := X0) (As := []) (nn := 0) Γ Λ (fun X => mtX1_asked (gl G) X e2) (lw_V q1650 q1651 q1652 q64 q1653) (by decide +kernel) (by decide) ⟨by omega, by omega⟩ rfl rfl (Nat.le_of_ble_eq_true rfl) dL_law_2067 ?_
  refine A_icmp_eq (t := 2176) (x := r) (y := r) (G := gX G (k) (n) (LwP X0 X1 τ)) (st := []) Γ dL_law_2070 (by decide) (fun _ => ?_) (fun w => absurd rfl w)
  exact L_up (K (xad X0) σ τ hR)
set_option maxHeartbeats 4000000 in
set_option maxRecDepth 100000 in
theorem lc_52 {G : Gx} {X0 X1 : Xw} {σ τ : St} {k n i L b : Nat} {xs : Nat → Int32} (Γ : Ok G R_law code 4) (Λ : LK G X0 X1) (C : LC G b L xs) (hR : R σ τ) (hi : i + 7 ≤ L) (hk : k + 3 ≤ 603072 ∧ n + 2010 ≤ 7262314) (K : ∀ (ad : Nat → Nat) (σ' τ' : St), R σ' τ' → At (gX G (k + 3) (n + 2010) (LwP (xUp X0 ad) X1 τ')) 4 σ' (lvi i X0 X1 b) [] 2176) : At (gX G k n (LwP X0 X1 τ)) 4 σ (lvi i X0 X1 b) [] 2075 := by
  obtain ⟨r, r', e1, e2, rfl⟩ := s_upper hR 
  refine A_aload_n Γ dL_law_2075 2 rfl ?_
  refine L_call0 (X0 := X0) (As := []) (nn := 0) Γ Λ (fun X => mtX0_upper (gl G) X e1) (lw_V q293 q294 q295 q63 q296) (by decide +kernel) (by decide) ⟨by omega, by omega⟩ rfl rfl (Nat.le_of_ble_eq_true rfl) dL_law_2076 ?_
  refine A_aload_n Γ dL_law_2079 1 rfl ?_
  refine L_call1 (X0 := X0) (As := []) (nn := 0) Γ Λ (fun X => mtX1_upper (gl G) X e2) (lw_V q1654 q1655 q1656 q64 q1657) (by decide +kernel) (by decide) ⟨by omega, by omega⟩ rfl rfl (Nat.le_of_ble_eq_true rfl) dL_law_2080 ?_
  refine A_lcmp (x := r) (y := r) (G := gX G (k) (n) (LwP X0 X1 τ)) (st := []) Γ dL_law_2083 ?_
  refine A_if_eq (t := 2176) (x := lg_cmp r r) (G := gX G (k) (n) (LwP X0 X1 τ)) (st := []) Γ dL_law_2084 (by decide) (fun _ => ?_) (fun w => absurd (lcmp_0 _) w)
  exact L_up (K (xad X0) σ τ hR)
set_option maxHeartbeats 4000000 in
set_option maxRecDepth 100000 in
theorem lc_53 {G : Gx} {X0 X1 : Xw} {σ τ : St} {k n i L b : Nat} {xs : Nat → Int32} (Γ : Ok G R_law code 4) (Λ : LK G X0 X1) (C : LC G b L xs) (hR : R σ τ) (hi : i + 7 ≤ L) (hk : k + 3 ≤ 603072 ∧ n + 2010 ≤ 7262314) (K : ∀ (ad : Nat → Nat) (σ' τ' : St), R σ' τ' → At (gX G (k + 3) (n + 2010) (LwP (xUp X0 ad) X1 τ')) 4 σ' (lvi i X0 X1 b) [] 2176) : At (gX G k n (LwP X0 X1 τ)) 4 σ (lvi i X0 X1 b) [] 2089 := by
  obtain ⟨r, r', e1, e2, rfl⟩ := s_lower hR 
  refine A_aload_n Γ dL_law_2089 2 rfl ?_
  refine L_call0 (X0 := X0) (As := []) (nn := 0) Γ Λ (fun X => mtX0_lower (gl G) X e1) (lw_V q297 q298 q299 q63 q300) (by decide +kernel) (by decide) ⟨by omega, by omega⟩ rfl rfl (Nat.le_of_ble_eq_true rfl) dL_law_2090 ?_
  refine A_aload_n Γ dL_law_2093 1 rfl ?_
  refine L_call1 (X0 := X0) (As := []) (nn := 0) Γ Λ (fun X => mtX1_lower (gl G) X e2) (lw_V q1658 q1659 q1660 q64 q1661) (by decide +kernel) (by decide) ⟨by omega, by omega⟩ rfl rfl (Nat.le_of_ble_eq_true rfl) dL_law_2094 ?_
  refine A_lcmp (x := r) (y := r) (G := gX G (k) (n) (LwP X0 X1 τ)) (st := []) Γ dL_law_2097 ?_
  refine A_if_eq (t := 2176) (x := lg_cmp r r) (G := gX G (k) (n) (LwP X0 X1 τ)) (st := []) Γ dL_law_2098 (by decide) (fun _ => ?_) (fun w => absurd (lcmp_0 _) w)
  exact L_up (K (xad X0) σ τ hR)
set_option maxHeartbeats 4000000 in
set_option maxRecDepth 100000 in
theorem lc_54 {G : Gx} {X0 X1 : Xw} {σ τ : St} {k n i L b : Nat} {xs : Nat → Int32} (Γ : Ok G R_law code 4) (Λ : LK G X0 X1) (C : LC G b L xs) (hR : R σ τ) (hi : i + 7 ≤ L) (hk : k + 3 ≤ 603072 ∧ n + 2010 ≤ 7262314) (K : ∀ (ad : Nat → Nat) (σ' τ' : St), R σ' τ' → At (gX G (k + 3) (n + 2010) (LwP (xUp X0 ad) X1 τ')) 4 σ' (lvi i X0 X1 b) [] 2176) : At (gX G k n (LwP X0 X1 τ)) 4 σ (lvi i X0 X1 b) [] 2103 := by
  obtain ⟨r, r', e1, e2, rfl⟩ := s_count hR (xs (i + 1))
  refine A_aload_n Γ dL_law_2103 2 rfl ?_
  refine L_arg (m := 1) (j := 1) (X0 := X0) (X1 := X1) Γ C (by decide) (by omega) dL_law_2104 dL_law_2105 dL_law_2106 dL_law_2107 dL_law_2108 ?_
  refine L_call0 (X0 := X0) (As := [.int (xs (i + 1))]) (nn := 1) Γ Λ (fun X => mtX0_count (gl G) X e1) (lw_V q1031 q1032 q1033 q63 q1034) (by decide +kernel) (by decide) ⟨by omega, by omega⟩ rfl rfl (Nat.le_of_ble_eq_true rfl) dL_law_2109 ?_
  refine A_aload_n Γ dL_law_2112 1 rfl ?_
  refine L_arg (m := 1) (j := 1) (X0 := X0) (X1 := X1) Γ C (by decide) (by omega) dL_law_2113 dL_law_2114 dL_law_2115 dL_law_2116 dL_law_2117 ?_
  refine L_call1 (X0 := X0) (As := [.int (xs (i + 1))]) (nn := 1) Γ Λ (fun X => mtX1_count (gl G) X e2) (lw_V q1662 q1663 q1664 q64 q1665) (by decide +kernel) (by decide) ⟨by omega, by omega⟩ rfl rfl (Nat.le_of_ble_eq_true rfl) dL_law_2118 ?_
  refine A_icmp_eq (t := 2176) (x := r) (y := r) (G := gX G (k) (n) (LwP X0 X1 τ)) (st := []) Γ dL_law_2121 (by decide) (fun _ => ?_) (fun w => absurd rfl w)
  exact L_up (K (xad X0) σ τ hR)
set_option maxHeartbeats 4000000 in
set_option maxRecDepth 100000 in
theorem lc_55 {G : Gx} {X0 X1 : Xw} {σ τ : St} {k n i L b : Nat} {xs : Nat → Int32} (Γ : Ok G R_law code 4) (Λ : LK G X0 X1) (C : LC G b L xs) (hR : R σ τ) (hi : i + 7 ≤ L) (hk : k + 3 ≤ 603072 ∧ n + 2010 ≤ 7262314) (K : ∀ (ad : Nat → Nat) (σ' τ' : St), R σ' τ' → At (gX G (k + 3) (n + 2010) (LwP (xUp X0 ad) X1 τ')) 4 σ' (lvi i X0 X1 b) [] 2176) : At (gX G k n (LwP X0 X1 τ)) 4 σ (lvi i X0 X1 b) [] 2126 := by
  obtain ⟨r, r', e1, e2, rfl⟩ := s_finding hR 
  refine A_aload_n Γ dL_law_2126 2 rfl ?_
  refine L_call0 (X0 := X0) (As := []) (nn := 0) Γ Λ (fun X => mtX0_finding (gl G) X e1) (lw_V q1039 q1040 q1041 q63 q1042) (by decide +kernel) (by decide) ⟨by omega, by omega⟩ rfl rfl (Nat.le_of_ble_eq_true rfl) dL_law_2127 ?_
  refine A_aload_n Γ dL_law_2130 1 rfl ?_
  refine L_call1 (X0 := X0) (As := []) (nn := 0) Γ Λ (fun X => mtX1_finding (gl G) X e2) (lw_V q1670 q1671 q1672 q64 q1673) (by decide +kernel) (by decide) ⟨by omega, by omega⟩ rfl rfl (Nat.le_of_ble_eq_true rfl) dL_law_2131 ?_
  refine A_icmp_eq (t := 2176) (x := r) (y := r) (G := gX G (k) (n) (LwP X0 X1 τ)) (st := []) Γ dL_law_2134 (by decide) (fun _ => ?_) (fun w => absurd rfl w)
  exact L_up (K (xad X0) σ τ hR)
set_option maxHeartbeats 4000000 in
set_option maxRecDepth 100000 in
theorem lc_56 {G : Gx} {X0 X1 : Xw} {σ τ : St} {k n i L b : Nat} {xs : Nat → Int32} (Γ : Ok G R_law code 4) (Λ : LK G X0 X1) (C : LC G b L xs) (hR : R σ τ) (hi : i + 7 ≤ L) (hk : k + 3 ≤ 603072 ∧ n + 2010 ≤ 7262314) (K : ∀ (ad : Nat → Nat) (σ' τ' : St), R σ' τ' → At (gX G (k + 3) (n + 2010) (LwP (xUp X0 ad) X1 τ')) 4 σ' (lvi i X0 X1 b) [] 2176) : At (gX G k n (LwP X0 X1 τ)) 4 σ (lvi i X0 X1 b) [] 2139 := by
  obtain ⟨r, r', e1, e2, rfl⟩ := s_findings hR (xs (i + 1))
  refine A_aload_n Γ dL_law_2139 2 rfl ?_
  refine L_arg (m := 1) (j := 1) (X0 := X0) (X1 := X1) Γ C (by decide) (by omega) dL_law_2140 dL_law_2141 dL_law_2142 dL_law_2143 dL_law_2144 ?_
  refine L_call0 (X0 := X0) (As := [.int (xs (i + 1))]) (nn := 1) Γ Λ (fun X => mtX0_findings (gl G) X e1) (lw_V q1043 q1044 q1045 q63 q1046) (by decide +kernel) (by decide) ⟨by omega, by omega⟩ rfl rfl (Nat.le_of_ble_eq_true rfl) dL_law_2145 ?_
  refine A_aload_n Γ dL_law_2148 1 rfl ?_
  refine L_arg (m := 1) (j := 1) (X0 := X0) (X1 := X1) Γ C (by decide) (by omega) dL_law_2149 dL_law_2150 dL_law_2151 dL_law_2152 dL_law_2153 ?_
  refine L_call1 (X0 := X0) (As := [.int (xs (i + 1))]) (nn := 1) Γ Λ (fun X => mtX1_findings (gl G) X e2) (lw_V q1674 q1675 q1676 q64 q1677) (by decide +kernel) (by decide) ⟨by omega, by omega⟩ rfl rfl (Nat.le_of_ble_eq_true rfl) dL_law_2154 ?_
  refine A_icmp_eq (t := 2176) (x := r) (y := r) (G := gX G (k) (n) (LwP X0 X1 τ)) (st := []) Γ dL_law_2157 (by decide) (fun _ => ?_) (fun w => absurd rfl w)
  exact L_up (K (xad X0) σ τ hR)
set_option maxHeartbeats 4000000 in
set_option maxRecDepth 100000 in
theorem lc_57 {G : Gx} {X0 X1 : Xw} {σ τ : St} {k n i L b : Nat} {xs : Nat → Int32} (Γ : Ok G R_law code 4) (Λ : LK G X0 X1) (C : LC G b L xs) (hR : R σ τ) (hi : i + 7 ≤ L) (hk : k + 3 ≤ 603072 ∧ n + 2010 ≤ 7262314) (K : ∀ (ad : Nat → Nat) (σ' τ' : St), R σ' τ' → At (gX G (k + 3) (n + 2010) (LwP (xUp X0 ad) X1 τ')) 4 σ' (lvi i X0 X1 b) [] 2176) : At (gX G k n (LwP X0 X1 τ)) 4 σ (lvi i X0 X1 b) [] 2162 := by
  obtain ⟨⟨r, σ'⟩, ⟨r', τ'⟩, e1, e2, e3, e4⟩ := s_digest hR 
  dsimp only at e3 e4
  subst e3
  refine A_aload_n Γ dL_law_2162 2 rfl ?_
  refine L_call0 (X0 := X0) (As := []) (nn := 0) Γ Λ (fun X => mtX0_digest (gl G) X e1) (lw_V q1047 q1048 q1049 q63 q1050) (by decide +kernel) (by decide) ⟨by omega, by omega⟩ rfl rfl (Nat.le_of_ble_eq_true rfl) dL_law_2163 ?_
  refine A_aload_n Γ dL_law_2166 1 rfl ?_
  refine L_call1 (X0 := X0) (As := []) (nn := 0) Γ Λ (fun X => mtX1_digest (gl G) X e2) (lw_V q1678 q1679 q1680 q64 q1681) (by decide +kernel) (by decide) ⟨by omega, by omega⟩ rfl rfl (Nat.le_of_ble_eq_true rfl) dL_law_2167 ?_
  refine A_lcmp (x := r) (y := r) (G := gX G (k) (n) (LwP X0 X1 τ')) (st := []) Γ dL_law_2170 ?_
  refine A_if_eq (t := 2176) (x := lg_cmp r r) (G := gX G (k) (n) (LwP X0 X1 τ')) (st := []) Γ dL_law_2171 (by decide) (fun _ => ?_) (fun w => absurd (lcmp_0 _) w)
  exact L_up (K (xad X0) σ' τ' e4)
