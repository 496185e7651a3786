/-! limit -/
theorem xh_cce1 {G : Gx} {cc : ByteArray} {nL pc : Nat} {X : Xw} (Γ : Ok G RX0 cc nL) (hXT : XT X (gs G)) {a b h1 : Nat} (ha : a ≤ pc) (hb : pc < b) {r : List (Nat × Nat × Nat × Nat)} : XcAt (gar G) (gs G) RX0 pc nCCE ((a, b, h1, 309) :: r) h1 :=
  Or.inl ⟨ha, hb, by decide, nCCE, Γ.2.2.2.2 _ q715, Or.inl ⟨hXT.1 _ xt_cce, rfl⟩⟩
theorem xt_no {X : Xw} {U : State} (h : XT X U) (i : Nat) {C T : String} (hi : xtn[i]? = some (C, T)) : va_Nc C T U := h.2.2.1 (C, T) (List.mem_of_getElem? hi)
theorem RX3_plain : (dotted RX3).toList.length ≤ 40 ∧ packageOf RX3 = "" := by decide +kernel
theorem RX4_plain : (dotted RX4).toList.length ≤ 40 ∧ packageOf RX4 = "" := by decide +kernel
theorem RX5_plain : (dotted RX5).toList.length ≤ 40 ∧ packageOf RX5 = "" := by decide +kernel
noncomputable def c_limit (σ : St) (a1 a2 : Int32) : Option (Int32 × St) :=
  B1 (c_isTrailer σ a1) fun v2 =>
  if v2 = 0 then (some ((-1), σ)) else
  B1 (c_in a2 (-50) 50) fun v3 =>
  if v3 = 0 then (some ((-1), σ)) else
  B1 (ixD σ 120 12 a1) fun k =>
  B1 (cL σ (120 + k)) fun n =>
  if n = 1 ∨ n = 3 then
    (B1 (rdT σ (120 + k) 11) fun was =>
    B1 (wrT σ (120 + k) 11 a2) fun σ1 =>
    c_say σ1 was 1)
  else c_found σ 3
set_option maxHeartbeats 4000000 in
set_option maxRecDepth 100000 in
theorem mtX0_limit (l : Launch) (htr : l.stackTraces = false) (X : Xw) {σ σ' : St} {a1 a2 : Int32} {r : Int32} (h : c_limit σ a1 a2 = some (r, σ')) : MetE l X yX0_limit cX0_limit 5 (some .int) [(21, 49, 50, 309)] eF eLo eMc eMs [.ref (xo X), .int a1, .int a2] σ (some (.int r)) σ' := MetE.of0 (by decide) (Nat.le_of_ble_eq_true rfl) (fun G hl Γ Ξ hXT hrows hRE hret => by
  rw [c_limit] at h
  have hRU : Rm (gUp G eMc eMs) eF eLo := hRE.rmU (Nat.le_refl _) (Nat.le_refl _)
  have hRm : Rm G eF eLo := hRE.rm (Nat.le_refl _) (Nat.le_refl _)
  have hup : ∀ {σ : St} {lv : List (Nat × Value)} {st : List Value} {pc : Nat}, At (gUp G eMc eMs) 5 σ lv st pc → At G 5 σ lv st pc := fun k => A_up (k := eMc) (n := eMs) (by rw [hRE.2.1]; exact Nat.zero_le _) (by rw [hRE.2.2]; exact Nat.zero_le _) k
  have hlv : lv_args 0 [.ref (xo X), .int a1, .int a2] = [(0, .ref (xo X)), (1, .int a1), (2, .int a2)] := rfl
  rw [hlv]
  refine A_aload_n Γ dX0_limit_0 0 rfl ?_
  refine A_iload_n Γ dX0_limit_1 1 rfl ?_
  replace h := b1 h
  obtain ⟨v2, e1, h⟩ := h
  refine kX0_X0isTrailer Γ Ξ hRm (by decide) (by decide) e1 (Nat.le_of_ble_eq_true rfl) dX0_limit_2 ?_
  refine A_if_eq (t := 19) Γ dX0_limit_5 (by decide) (fun c => ?_) (fun c => ?_)
  · replace h := it_t c h
    refine A_iconst (v := (-1)) Γ dX0_limit_19 (by decide) ?_
    obtain ⟨rfl, rfl⟩ := inj2 h
    exact hup (hret _ _ dX0_limit_20)
  · replace h := it_f c h
    refine A_iload_n Γ dX0_limit_8 2 rfl ?_
    refine A_bipush (v := (-50)) Γ dX0_limit_9 (by decide) ?_
    refine A_bipush (v := 50) Γ dX0_limit_11 (by decide) ?_
    replace h := b1 h
    obtain ⟨v3, e2, h⟩ := h
    refine kX0_X0in Γ (kpX Ξ) hRm (by decide) (by decide) e2 (Nat.le_of_ble_eq_true rfl) dX0_limit_13 ?_
    refine A_if_ne (t := 21) Γ dX0_limit_16 (by decide) (fun c => ?_) (fun c => ?_)
    · replace h := it_f c h
      replace h := b1 h
      obtain ⟨k, e3, h⟩ := h
      replace h := b1 h
      obtain ⟨n, hL, h⟩ := h
      refine A_aload_n Γ dX0_limit_21 0 rfl ?_
      refine g0_18 Γ Ξ dX0_limit_22 ?_
      refine A_iload_n Γ dX0_limit_25 1 rfl ?_
      refine A_trsD Γ Ξ e3 dX0_limit_26 ?_
      by_cases hn : n = 1 ∨ n = 3
      · replace h := it_t hn h
        have hcast : ∀ k1 : At G 5 σ [(0, .ref (xo X)), (1, .int a1), (2, .int a2)] [.ref (xad X (120 + k))] 30, At G 5 σ [(0, .ref (xo X)), (1, .int a1), (2, .int a2)] [.ref (xad X (120 + k))] 27 := fun k1 => by
          rcases hn with rfl | rfl
          · exact A_castY Γ Ξ (kTr_tD e3) hL rfl q605 (Or.inr rfl) dX0_limit_27 k1
          · exact A_castY Γ Ξ (kTr_tD e3) hL rfl q605 (Or.inl (List.mem_of_getElem? (i := 5) rfl)) dX0_limit_27 k1
        refine hcast ?_
        refine A_astore_n (lv' := [(3, .ref (xad X (120 + k))), (0, .ref (xo X)), (1, .int a1), (2, .int a2)]) Γ dX0_limit_30 (by decide) rfl ?_
        refine A_aload_n Γ dX0_limit_31 0 rfl ?_
        replace h := b1 h
        obtain ⟨was, e4, h⟩ := h
        refine gTX0_11 Γ Ξ (kTr_tD e3) rfl e4 dX0_limit_32 ?_
        refine A_istore (lv' := [(4, .int was), (3, .ref (xad X (120 + k))), (0, .ref (xo X)), (1, .int a1), (2, .int a2)]) Γ dX0_limit_35 (by decide) rfl ?_
        refine A_aload_n Γ dX0_limit_37 1 rfl ?_
        refine A_iload_n Γ dX0_limit_38 4 rfl ?_
        replace h := b1 h
        obtain ⟨σ1, e5, h⟩ := h
        refine pTX0_11 Γ Ξ (kTr_tD e3) rfl e5 dX0_limit_39 ?_
        refine A_aload_n Γ dX0_limit_42 2 rfl ?_
        refine A_iload Γ dX0_limit_43 0 rfl ?_
        refine A_iconst (v := 1) Γ dX0_limit_45 (by decide) ?_
        refine kX0_X0say Γ Ξ hRm (by decide) (by decide) h (Nat.le_of_ble_eq_true rfl) dX0_limit_46 ?_
        exact hup (hret _ _ dX0_limit_49)
      · replace h := it_f hn h
        refine E_msgX Γ Ξ hXT (by rw [hl]; exact htr) hRE xm_cce (by decide +kernel) (by decide) hrows (xh_cce1 Γ hXT (by decide) (by decide)) (thr_cce Γ Ξ hXT (kTr_tD e3) hL q605 (fun h4 => ?_) RX3_plain (Nat.le_of_ble_eq_true rfl) dX0_limit_27) (fun ea => ?_)
        · match n, h4 with
          | 0, _ => exact xt_no hXT 1 rfl
          | 1, _ => exact absurd (Or.inl rfl) hn
          | 2, _ => exact xt_no hXT 2 rfl
          | 3, _ => exact absurd (Or.inr rfl) hn
        · refine A_astore_n (G := gUp G eMc eMs) (lv' := [(3, .ref ea), (0, .ref (xo X)), (1, .int a1), (2, .int a2)]) Γ dX0_limit_50 (by decide) rfl ?_
          refine A_aload_n (G := gUp G eMc eMs) Γ dX0_limit_51 1 rfl ?_
          refine A_iconst (G := gUp G eMc eMs) (v := 3) Γ dX0_limit_52 (by decide) ?_
          refine kX0_X0found (G := gUp G eMc eMs) Γ Ξ hRU (by decide) (by decide) h (Nat.le_of_ble_eq_true rfl) dX0_limit_53 ?_
          exact hret _ _ dX0_limit_56
    · replace h := it_t c h
      refine A_iconst (v := (-1)) Γ dX0_limit_19 (by decide) ?_
      obtain ⟨rfl, rfl⟩ := inj2 h
      exact hup (hret _ _ dX0_limit_20))
