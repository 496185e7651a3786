/-! the law: weight, the switch, the loop; by mkstep.py -/
set_option maxHeartbeats 4000000 in
set_option maxRecDepth 100000 in
theorem lc_34 {G : Gx} {X0 X1 : Xw} {σ τ : St} {k n i L b : Nat} {xs : Nat → Int32} (Γ : Ok G R_law code 4) (Λ : LK G X0 X1) (C : LC G b L xs) (hR : R σ τ) (hi : i + 7 ≤ L) (hk : k + 3 ≤ 603072 ∧ n + 2010 ≤ 7262314) (K : ∀ (ad : Nat → Nat) (σ' τ' : St), R σ' τ' → At (gX G (k + 3) (n + 2010) (LwP (xUp X0 ad) X1 τ')) 4 σ' (lvi i X0 X1 b) [] 2176) : At (gX G k n (LwP X0 X1 τ)) 4 σ (lvi i X0 X1 b) [] 1463 := by
  by_cases c : xs (i + 2) = 0
  · obtain ⟨⟨r, σ'⟩, ⟨r', τ'⟩, e1, e2, e3, e4⟩ := s_weight hR (xs (i + 1)) 0
    dsimp only at e3 e4
    subst e3
    refine A_aload_n Γ dL_law_1463 2 rfl ?_
    refine L_arg (m := 1) (j := 1) (X0 := X0) (X1 := X1) Γ C (by decide) (by omega) dL_law_1464 dL_law_1465 dL_law_1466 dL_law_1467 dL_law_1468 ?_
    refine L_arg (m := 2) (j := 2) (X0 := X0) (X1 := X1) Γ C (by decide) (by omega) dL_law_1469 dL_law_1470 dL_law_1471 dL_law_1472 dL_law_1473 ?_
    refine A_if_eq (t := 1481) (G := gX G k n (LwP X0 X1 τ)) Γ dL_law_1474 (by decide) (fun _ => ?_) (fun w => absurd c w)
    refine A_iconst (v := 0) (G := gX G k n (LwP X0 X1 τ)) Γ dL_law_1481 (by decide) ?_
    refine L_call0 (X0 := X0) (As := [.int (xs (i + 1)), .int 0]) (nn := 2) Γ Λ (fun X => mtX0_weight (gl G) X e1) (lw_V q847 q848 q849 q63 q850) (by decide +kernel) (by decide) ⟨by omega, by omega⟩ rfl rfl (Nat.le_of_ble_eq_true rfl) dL_law_1482 ?_
    refine A_aload_n Γ dL_law_1485 1 rfl ?_
    refine L_arg (m := 1) (j := 1) (X0 := X0) (X1 := X1) Γ C (by decide) (by omega) dL_law_1486 dL_law_1487 dL_law_1488 dL_law_1489 dL_law_1490 ?_
    refine L_arg (m := 2) (j := 2) (X0 := X0) (X1 := X1) Γ C (by decide) (by omega) dL_law_1491 dL_law_1492 dL_law_1493 dL_law_1494 dL_law_1495 ?_
    refine A_if_eq (t := 1503) (G := gX G k n (LwP X0 X1 τ)) Γ dL_law_1496 (by decide) (fun _ => ?_) (fun w => absurd c w)
    refine A_iconst (v := 0) (G := gX G k n (LwP X0 X1 τ)) Γ dL_law_1503 (by decide) ?_
    refine L_call1 (X0 := X0) (As := [.int (xs (i + 1)), .int 0]) (nn := 2) Γ Λ (fun X => mtX1_weight (gl G) X e2) (lw_V q1522 q1523 q1524 q64 q1525) (by decide +kernel) (by decide) ⟨by omega, by omega⟩ rfl rfl (Nat.le_of_ble_eq_true rfl) dL_law_1504 ?_
    refine A_icmp_eq (t := 2176) (x := r) (y := r) (G := gX G k n (LwP X0 X1 τ')) (st := []) Γ dL_law_1507 (by decide) (fun _ => ?_) (fun w => absurd rfl w)
    exact L_up (K (xad X0) σ' τ' e4)
  · obtain ⟨⟨r, σ'⟩, ⟨r', τ'⟩, e1, e2, e3, e4⟩ := s_weight hR (xs (i + 1)) 1
    dsimp only at e3 e4
    subst e3
    refine A_aload_n Γ dL_law_1463 2 rfl ?_
    refine L_arg (m := 1) (j := 1) (X0 := X0) (X1 := X1) Γ C (by decide) (by omega) dL_law_1464 dL_law_1465 dL_law_1466 dL_law_1467 dL_law_1468 ?_
    refine L_arg (m := 2) (j := 2) (X0 := X0) (X1 := X1) Γ C (by decide) (by omega) dL_law_1469 dL_law_1470 dL_law_1471 dL_law_1472 dL_law_1473 ?_
    refine A_if_eq (t := 1481) (G := gX G k n (LwP X0 X1 τ)) Γ dL_law_1474 (by decide) (fun w => absurd w c) (fun _ => ?_)
    refine A_iconst (v := 1) (G := gX G k n (LwP X0 X1 τ)) Γ dL_law_1477 (by decide) ?_
    refine A_goto (t := 1482) (G := gX G k n (LwP X0 X1 τ)) Γ dL_law_1478 (by decide) ?_
    refine L_call0 (X0 := X0) (As := [.int (xs (i + 1)), .int 1]) (nn := 2) Γ Λ (fun X => mtX0_weight (gl G) X e1) (lw_V q847 q848 q849 q63 q850) (by decide +kernel) (by decide) ⟨by omega, by omega⟩ rfl rfl (Nat.le_of_ble_eq_true rfl) dL_law_1482 ?_
    refine A_aload_n Γ dL_law_1485 1 rfl ?_
    refine L_arg (m := 1) (j := 1) (X0 := X0) (X1 := X1) Γ C (by decide) (by omega) dL_law_1486 dL_law_1487 dL_law_1488 dL_law_1489 dL_law_1490 ?_
    refine L_arg (m := 2) (j := 2) (X0 := X0) (X1 := X1) Γ C (by decide) (by omega) dL_law_1491 dL_law_1492 dL_law_1493 dL_law_1494 dL_law_1495 ?_
    refine A_if_eq (t := 1503) (G := gX G k n (LwP X0 X1 τ)) Γ dL_law_1496 (by decide) (fun w => absurd w c) (fun _ => ?_)
    refine A_iconst (v := 1) (G := gX G k n (LwP X0 X1 τ)) Γ dL_law_1499 (by decide) ?_
    refine A_goto (t := 1504) (G := gX G k n (LwP X0 X1 τ)) Γ dL_law_1500 (by decide) ?_
    refine L_call1 (X0 := X0) (As := [.int (xs (i + 1)), .int 1]) (nn := 2) Γ Λ (fun X => mtX1_weight (gl G) X e2) (lw_V q1522 q1523 q1524 q64 q1525) (by decide +kernel) (by decide) ⟨by omega, by omega⟩ rfl rfl (Nat.le_of_ble_eq_true rfl) dL_law_1504 ?_
    refine A_icmp_eq (t := 2176) (x := r) (y := r) (G := gX G k n (LwP X0 X1 τ')) (st := []) Γ dL_law_1507 (by decide) (fun _ => ?_) (fun w => absurd rfl w)
    exact L_up (K (xad X0) σ' τ' e4)
set_option maxHeartbeats 4000000 in
set_option maxRecDepth 100000 in
theorem lw_step {G : Gx} {X0 X1 : Xw} {σ τ : St} {k n i L b : Nat} {xs : Nat → Int32} (Γ : Ok G R_law code 4) (Λ : LK G X0 X1) (C : LC G b L xs) (hR : R σ τ) (hi : i + 7 ≤ L) (hk : k + 3 ≤ 603072 ∧ n + 2010 ≤ 7262314) (K : ∀ (ad : Nat → Nat) (σ' τ' : St), R σ' τ' → At (gX G (k + 3) (n + 2010) (LwP (xUp X0 ad) X1 τ')) 4 σ' (lvi i X0 X1 b) [] 2176) : At (gX G k n (LwP X0 X1 τ)) 4 σ (lvi i X0 X1 b) [] 27 := by
  have Γ1 : Ok (gX G k n (LwP X0 X1 τ)) R_law code 4 := Γ
  refine A_aload_n Γ1 dL_law_27 3 rfl ?_
  refine A_iload_n Γ1 dL_law_28 0 rfl ?_
  refine L_sld Γ C (show i < L by omega) dL_law_29 ?_
  refine A_bipush (v := 63) Γ1 dL_law_30 (by decide) ?_
  refine A_iand Γ1 dL_law_32 ?_
  generalize xs i &&& 63 = x
  by_cases hx : ∃ j, j < 58 ∧ x = nI j
  · obtain ⟨j, hj, rfl⟩ := hx
    have : j = 0 ∨ j = 1 ∨ j = 2 ∨ j = 3 ∨ j = 4 ∨ j = 5 ∨ j = 6 ∨ j = 7 ∨ j = 8 ∨ j = 9 ∨ j = 10 ∨ j = 11 ∨ j = 12 ∨ j = 13 ∨ j = 14 ∨ j = 15 ∨ j = 16 ∨ j = 17 ∨ j = 18 ∨ j = 19 ∨ j = 20 ∨ j = 21 ∨ j = 22 ∨ j = 23 ∨ j = 24 ∨ j = 25 ∨ j = 26 ∨ j = 27 ∨ j = 28 ∨ j = 29 ∨ j = 30 ∨ j = 31 ∨ j = 32 ∨ j = 33 ∨ j = 34 ∨ j = 35 ∨ j = 36 ∨ j = 37 ∨ j = 38 ∨ j = 39 ∨ j = 40 ∨ j = 41 ∨ j = 42 ∨ j = 43 ∨ j = 44 ∨ j = 45 ∨ j = 46 ∨ j = 47 ∨ j = 48 ∨ j = 49 ∨ j = 50 ∨ j = 51 ∨ j = 52 ∨ j = 53 ∨ j = 54 ∨ j = 55 ∨ j = 56 ∨ j = 57 := by omega
    rcases this with rfl | rfl | rfl | rfl | rfl | rfl | rfl | rfl | rfl | rfl | rfl | rfl | rfl | rfl | rfl | rfl | rfl | rfl | rfl | rfl | rfl | rfl | rfl | rfl | rfl | rfl | rfl | rfl | rfl | rfl | rfl | rfl | rfl | rfl | rfl | rfl | rfl | rfl | rfl | rfl | rfl | rfl | rfl | rfl | rfl | rfl | rfl | rfl | rfl | rfl | rfl | rfl | rfl | rfl | rfl | rfl | rfl | rfl
    · exact A_tableIn (off := 247) (t := 280) Γ1 dL_law_33 (by decide) (by decide) (by decide) (by decide) (lc_0 Γ Λ C hR hi hk K)
    · exact A_tableIn (off := 280) (t := 313) Γ1 dL_law_33 (by decide) (by decide) (by decide) (by decide) (lc_1 Γ Λ C hR hi hk K)
    · exact A_tableIn (off := 323) (t := 356) Γ1 dL_law_33 (by decide) (by decide) (by decide) (by decide) (lc_2 Γ Λ C hR hi hk K)
    · exact A_tableIn (off := 346) (t := 379) Γ1 dL_law_33 (by decide) (by decide) (by decide) (by decide) (lc_3 Γ Λ C hR hi hk K)
    · exact A_tableIn (off := 409) (t := 442) Γ1 dL_law_33 (by decide) (by decide) (by decide) (by decide) (lc_4 Γ Λ C hR hi hk K)
    · exact A_tableIn (off := 442) (t := 475) Γ1 dL_law_33 (by decide) (by decide) (by decide) (by decide) (lc_5 Γ Λ C hR hi hk K)
    · exact A_tableIn (off := 485) (t := 518) Γ1 dL_law_33 (by decide) (by decide) (by decide) (by decide) (lc_6 Γ Λ C hR hi hk K)
    · exact A_tableIn (off := 508) (t := 541) Γ1 dL_law_33 (by decide) (by decide) (by decide) (by decide) (lc_7 Γ Λ C hR hi hk K)
    · exact A_tableIn (off := 531) (t := 564) Γ1 dL_law_33 (by decide) (by decide) (by decide) (by decide) (lc_8 Γ Λ C hR hi hk K)
    · exact A_tableIn (off := 584) (t := 617) Γ1 dL_law_33 (by decide) (by decide) (by decide) (by decide) (lc_9 Γ Λ C hR hi hk K)
    · exact A_tableIn (off := 637) (t := 670) Γ1 dL_law_33 (by decide) (by decide) (by decide) (by decide) (lc_10 Γ Λ C hR hi hk K)
    · exact A_tableIn (off := 680) (t := 713) Γ1 dL_law_33 (by decide) (by decide) (by decide) (by decide) (lc_11 Γ Λ C hR hi hk K)
    · exact A_tableIn (off := 713) (t := 746) Γ1 dL_law_33 (by decide) (by decide) (by decide) (by decide) (lc_12 Γ Λ C hR hi hk K)
    · exact A_tableIn (off := 756) (t := 789) Γ1 dL_law_33 (by decide) (by decide) (by decide) (by decide) (lc_13 Γ Λ C hR hi hk K)
    · exact A_tableIn (off := 789) (t := 822) Γ1 dL_law_33 (by decide) (by decide) (by decide) (by decide) (lc_14 Γ Λ C hR hi hk K)
    · exact A_tableIn (off := 822) (t := 855) Γ1 dL_law_33 (by decide) (by decide) (by decide) (by decide) (lc_15 Γ Λ C hR hi hk K)
    · exact A_tableIn (off := 855) (t := 888) Γ1 dL_law_33 (by decide) (by decide) (by decide) (by decide) (lc_16 Γ Λ C hR hi hk K)
    · exact A_tableIn (off := 888) (t := 921) Γ1 dL_law_33 (by decide) (by decide) (by decide) (by decide) (lc_17 Γ Λ C hR hi hk K)
    · exact A_tableIn (off := 921) (t := 954) Γ1 dL_law_33 (by decide) (by decide) (by decide) (by decide) (lc_18 Γ Λ C hR hi hk K)
    · exact A_tableIn (off := 944) (t := 977) Γ1 dL_law_33 (by decide) (by decide) (by decide) (by decide) (lc_19 Γ Λ C hR hi hk K)
    · exact A_tableIn (off := 977) (t := 1010) Γ1 dL_law_33 (by decide) (by decide) (by decide) (by decide) (lc_20 Γ Λ C hR hi hk K)
    · exact A_tableIn (off := 1010) (t := 1043) Γ1 dL_law_33 (by decide) (by decide) (by decide) (by decide) (lc_21 Γ Λ C hR hi hk K)
    · exact A_tableIn (off := 1033) (t := 1066) Γ1 dL_law_33 (by decide) (by decide) (by decide) (by decide) (lc_22 Γ Λ C hR hi hk K)
    · exact A_tableIn (off := 1066) (t := 1099) Γ1 dL_law_33 (by decide) (by decide) (by decide) (by decide) (lc_23 Γ Λ C hR hi hk K)
    · exact A_tableIn (off := 1099) (t := 1132) Γ1 dL_law_33 (by decide) (by decide) (by decide) (by decide) (lc_24 Γ Λ C hR hi hk K)
    · exact A_tableIn (off := 1142) (t := 1175) Γ1 dL_law_33 (by decide) (by decide) (by decide) (by decide) (lc_25 Γ Λ C hR hi hk K)
    · exact A_tableIn (off := 1175) (t := 1208) Γ1 dL_law_33 (by decide) (by decide) (by decide) (by decide) (lc_26 Γ Λ C hR hi hk K)
    · exact A_tableIn (off := 1208) (t := 1241) Γ1 dL_law_33 (by decide) (by decide) (by decide) (by decide) (lc_27 Γ Λ C hR hi hk K)
    · exact A_tableIn (off := 1261) (t := 1294) Γ1 dL_law_33 (by decide) (by decide) (by decide) (by decide) (lc_28 Γ Λ C hR hi hk K)
    · exact A_tableIn (off := 1284) (t := 1317) Γ1 dL_law_33 (by decide) (by decide) (by decide) (by decide) (lc_29 Γ Λ C hR hi hk K)
    · exact A_tableIn (off := 1298) (t := 1331) Γ1 dL_law_33 (by decide) (by decide) (by decide) (by decide) (lc_30 Γ Λ C hR hi hk K)
    · exact A_tableIn (off := 1331) (t := 1364) Γ1 dL_law_33 (by decide) (by decide) (by decide) (by decide) (lc_31 Γ Λ C hR hi hk K)
    · exact A_tableIn (off := 1374) (t := 1407) Γ1 dL_law_33 (by decide) (by decide) (by decide) (by decide) (lc_32 Γ Λ C hR hi hk K)
    · exact A_tableIn (off := 1397) (t := 1430) Γ1 dL_law_33 (by decide) (by decide) (by decide) (by decide) (lc_33 Γ Λ C hR hi hk K)
    · exact A_tableIn (off := 1430) (t := 1463) Γ1 dL_law_33 (by decide) (by decide) (by decide) (by decide) (lc_34 Γ Λ C hR hi hk K)
    · exact A_tableIn (off := 1479) (t := 1512) Γ1 dL_law_33 (by decide) (by decide) (by decide) (by decide) (lc_35 Γ Λ C hR hi hk K)
    · exact A_tableIn (off := 1502) (t := 1535) Γ1 dL_law_33 (by decide) (by decide) (by decide) (by decide) (lc_36 Γ Λ C hR hi hk K)
    · exact A_tableIn (off := 1525) (t := 1558) Γ1 dL_law_33 (by decide) (by decide) (by decide) (by decide) (lc_37 Γ Λ C hR hi hk K)
    · exact A_tableIn (off := 1568) (t := 1601) Γ1 dL_law_33 (by decide) (by decide) (by decide) (by decide) (lc_38 Γ Λ C hR hi hk K)
    · exact A_tableIn (off := 1591) (t := 1624) Γ1 dL_law_33 (by decide) (by decide) (by decide) (by decide) (lc_39 Γ Λ C hR hi hk K)
    · exact A_tableIn (off := 1614) (t := 1647) Γ1 dL_law_33 (by decide) (by decide) (by decide) (by decide) (lc_40 Γ Λ C hR hi hk K)
    · exact A_tableIn (off := 1637) (t := 1670) Γ1 dL_law_33 (by decide) (by decide) (by decide) (by decide) (lc_41 Γ Λ C hR hi hk K)
    · exact A_tableIn (off := 1690) (t := 1723) Γ1 dL_law_33 (by decide) (by decide) (by decide) (by decide) (lc_42 Γ Λ C hR hi hk K)
    · exact A_tableIn (off := 1723) (t := 1756) Γ1 dL_law_33 (by decide) (by decide) (by decide) (by decide) (lc_43 Γ Λ C hR hi hk K)
    · exact A_tableIn (off := 1746) (t := 1779) Γ1 dL_law_33 (by decide) (by decide) (by decide) (by decide) (lc_44 Γ Λ C hR hi hk K)
    · exact A_tableIn (off := 1821) (t := 1854) Γ1 dL_law_33 (by decide) (by decide) (by decide) (by decide) (lc_45 Γ Λ C hR hi hk K)
    · exact A_tableIn (off := 1844) (t := 1877) Γ1 dL_law_33 (by decide) (by decide) (by decide) (by decide) (lc_46 Γ Λ C hR hi hk K)
    · exact A_tableIn (off := 1887) (t := 1920) Γ1 dL_law_33 (by decide) (by decide) (by decide) (by decide) (lc_47 Γ Λ C hR hi hk K)
    · exact A_tableIn (off := 1910) (t := 1943) Γ1 dL_law_33 (by decide) (by decide) (by decide) (by decide) (lc_48 Γ Λ C hR hi hk K)
    · exact A_tableIn (off := 1943) (t := 1976) Γ1 dL_law_33 (by decide) (by decide) (by decide) (by decide) (lc_49 Γ Λ C hR hi hk K)
    · exact A_tableIn (off := 2006) (t := 2039) Γ1 dL_law_33 (by decide) (by decide) (by decide) (by decide) (lc_50 Γ Λ C hR hi hk K)
    · exact A_tableIn (off := 2029) (t := 2062) Γ1 dL_law_33 (by decide) (by decide) (by decide) (by decide) (lc_51 Γ Λ C hR hi hk K)
    · exact A_tableIn (off := 2042) (t := 2075) Γ1 dL_law_33 (by decide) (by decide) (by decide) (by decide) (lc_52 Γ Λ C hR hi hk K)
    · exact A_tableIn (off := 2056) (t := 2089) Γ1 dL_law_33 (by decide) (by decide) (by decide) (by decide) (lc_53 Γ Λ C hR hi hk K)
    · exact A_tableIn (off := 2070) (t := 2103) Γ1 dL_law_33 (by decide) (by decide) (by decide) (by decide) (lc_54 Γ Λ C hR hi hk K)
    · exact A_tableIn (off := 2093) (t := 2126) Γ1 dL_law_33 (by decide) (by decide) (by decide) (by decide) (lc_55 Γ Λ C hR hi hk K)
    · exact A_tableIn (off := 2106) (t := 2139) Γ1 dL_law_33 (by decide) (by decide) (by decide) (by decide) (lc_56 Γ Λ C hR hi hk K)
    · exact A_tableIn (off := 2129) (t := 2162) Γ1 dL_law_33 (by decide) (by decide) (by decide) (by decide) (lc_57 Γ Λ C hR hi hk K)
  · refine A_tableOut (t := 2176) Γ1 dL_law_33 (tb_out (n := 58) (by decide) (fun j hj w => hx ⟨j, hj, w⟩)) (by decide) ?_
    exact L_up (K (xad X0) σ τ hR)
theorem lp_le {L i : Nat} (hL : L ≤ 448) (hi : i ≤ 500) (h : ¬ nI L - 7 < nI i) : i + 7 ≤ L := by
  have a1 : ∀ L, L ≤ 448 → (nI L - 7).toInt = (L : Int) - 7 := by decide +kernel
  have h1 := mt Int32.lt_iff_toInt_lt.mpr h
  rw [a1 L hL, nI_toInt (by omega)] at h1
  omega
set_option maxHeartbeats 4000000 in
theorem lw_loop {G : Gx} {X1 : Xw} {L b : Nat} {xs : Nat → Int32} (Γ : Ok G R_law code 4) (C : LC G b L xs) (E : ∀ (k n : Nat) (P : St → Heap → Prop) (σ : St) (lv : List (Nat × Value)), k ≤ 603072 → n ≤ 7262314 → At (gX G k n P) 4 σ lv [.int 1] 2183) : ∀ (N j : Nat) (X0 : Xw) (σ τ : St), 65 ≤ j + N → j ≤ 64 → LK G X0 X1 → R σ τ → At (gX G (95 + 3 * j) (5139 + 2010 * j) (LwP X0 X1 τ)) 4 σ (lvi (7 * j) X0 X1 b) [] 18 := by
  intro N
  induction N with
  | zero => intro j X0 σ τ hN hj; omega
  | succ N ih =>
    intro j X0 σ τ hN hj Λ hR
    have Γ1 : Ok (gX G (95 + 3 * j) (5139 + 2010 * j) (LwP X0 X1 τ)) R_law code 4 := Γ
    refine A_iload_n Γ1 dL_law_18 0 rfl ?_
    refine A_aload_n Γ1 dL_law_19 3 rfl ?_
    refine L_slen Γ C dL_law_20 ?_
    refine A_bipush (v := 7) Γ1 dL_law_21 (by decide) ?_
    refine A_isub Γ1 dL_law_23 ?_
    refine A_icmp_gt (t := 2182) Γ1 dL_law_24 (by decide) (fun _ => ?_) (fun w => ?_)
    · refine A_iconst (v := 1) Γ1 dL_law_2182 (by decide) ?_
      exact E _ _ _ _ _ (by omega) (by omega)
    · have hi := lp_le C.2.2.1 (by omega) w
      have hL := C.2.2.1
      refine lw_step Γ Λ C hR hi ⟨by omega, by omega⟩ (fun ad σ' τ' hR' => ?_)
      have Γ2 : Ok (gX G (95 + 3 * j + 3) (5139 + 2010 * j + 2010) (LwP (xUp X0 ad) X1 τ')) R_law code 4 := Γ
      refine A_iinc (v := nI (7 * j + 7)) (lv' := lvi (7 * j + 7) X0 X1 b) Γ2 dL_law_2176 0 rfl (show nI (7 * j) + Int32.ofInt 7 = nI (7 * j + 7) from nI_add (7 * j) 7) (by decide) rfl ?_
      refine A_goto (t := 18) Γ2 dL_law_2179 (by decide) ?_
      have h := ih (j + 1) (xUp X0 ad) σ' τ' (by omega) (by omega) (Λ.up ad) hR'
      rw [show 95 + 3 * (j + 1) = 95 + 3 * j + 3 by omega, show 5139 + 2010 * (j + 1) = 5139 + 2010 * j + 2010 by omega, show 7 * (j + 1) = 7 * j + 7 by omega] at h
      exact h
