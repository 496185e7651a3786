/-! text -/
def spc (n : Nat) : Nat → Int32 := fun j => if j < n then 32 else 0
def newT (σ : St) (n : Nat) : St := sL (sAr σ 119 (spc n)) 119 (some n)
noncomputable def c_text (σ : St) (a1 a2 : Int32) : Option (Int32 × St) :=
  B1 (c_isText a1) fun v2 =>
  if v2 = 0 then (some ((-1), σ)) else
  if a2 ≤ 40 then
    (B1 (ixA 4 a1) fun k =>
    if a2 < 0 then c_found σ 5 else some (a2, movD (newT σ a2.toNatClampNeg) 119 (110 + k)))
  else (some ((-1), σ))
def texAt (σ : St) (N i : Nat) : St := sL (sAr σ 119 (spc i)) 119 (some N)
theorem texAt_0 (σ : St) (N : Nat) : newD σ 119 N 0 = texAt σ N 0 := by
  unfold newD texAt
  have e : spc 0 = fun _ => 0 := by funext j; unfold spc; rw [if_neg (Nat.not_lt_zero j)]
  rw [e]
theorem texAt_s (σ : St) (N i : Nat) : sA (texAt σ N i) 119 i 32 = texAt σ N (i + 1) := by
  have e : upd (spc i) i 32 = spc (i + 1) := by
    funext j
    unfold upd spc
    by_cases h : j = i
    · subst h; simp
    · by_cases h2 : j < i
      · simp [h, h2, Nat.lt_succ_of_lt h2]
      · have : ¬ j < i + 1 := by omega
        simp [h, h2, this]
  unfold texAt sA
  show (_, _, va_up (va_up (cA σ) 119 (spc i)) 119 (upd (va_up (cA σ) 119 (spc i) 119) i 32), _) = (_, _, va_up (cA σ) 119 (spc (i + 1)), _)
  have e2 : va_up (cA σ) 119 (spc i) 119 = spc i := by unfold va_up; rw [if_pos rfl]
  rw [e2, e]
  have e3 : va_up (va_up (cA σ) 119 (spc i)) 119 (spc (i + 1)) = va_up (cA σ) 119 (spc (i + 1)) := by
    funext j
    unfold va_up
    by_cases h : j = 119 <;> simp [h]
  rw [e3]
  rfl
set_option maxHeartbeats 4000000 in
set_option maxRecDepth 100000 in
theorem mtX0_text (l : Launch) (htr : l.stackTraces = false) (X : Xw) {σ σ' : St} {a1 a2 : Int32} {r : Int32} (h : c_text σ a1 a2 = some (r, σ')) : MetE l X yX0_text cX0_text 5 (some .int) [(15, 48, 49, 179)] eF eLo eMc eMs [.ref (xo X), .int a1, .int a2] σ (some (.int r)) σ' := MetE.ofAt (by decide) (Nat.le_of_ble_eq_true rfl) (fun G hl Γ Ξ hXT hrows hRm hret => by
  rw [c_text] at h
  have hRU : Rm (gUp G eMc eMs) eF eLo := hRm.rmU (Nat.le_refl _) (Nat.le_refl _)
  have hU : ∀ (pc : Nat) (lv : List (Nat × Value)), retIs cX0_text (some .int) (some (.int r)) pc → At (gUp G eMc eMs) 5 σ' lv [.int r] pc := fun pc lv hd => by
    have h := hret _ (xad X) pc lv hd rfl
    have e : gUp G eMc eMs = gX G eMc eMs (Pic 0 (xUp X (xad X))) := by
      show gX G eMc eMs (gP G) = _
      rw [Ξ.2.1]
    rw [e]
    exact h
  have hup : ∀ {σ : St} {lv : List (Nat × Value)} {st : List Value} {pc : Nat}, At (gUp G eMc eMs) 5 σ lv st pc → At G 5 σ lv st pc := fun k => A_up (k := eMc) (n := eMs) (by rw [hRm.2.1]; exact Nat.zero_le _) (by rw [hRm.2.2]; exact Nat.zero_le _) k
  refine A_iload_n Γ dX0_text_0 1 rfl ?_
  replace h := b1 h
  obtain ⟨v2, e1, h⟩ := h
  refine kX0_X0isText (F := eF) (LO := eLo) Γ (kpX Ξ) (hRm.rm (Nat.le_refl _) (Nat.le_refl _)) (by decide) (by decide) e1 (Nat.le_of_ble_eq_true rfl) dX0_text_1 ?_
  refine A_if_eq (t := 13) Γ dX0_text_4 (by decide) (fun c => ?_) (fun c => ?_)
  · replace h := it_t c h
    refine A_iconst (v := (-1)) Γ dX0_text_13 (by decide) ?_
    obtain ⟨rfl, rfl⟩ := inj2 h
    exact hup (hU _ _ dX0_text_14)
  · replace h := it_f c h
    refine A_iload_n Γ dX0_text_7 2 rfl ?_
    refine A_bipush (v := 40) Γ dX0_text_8 (by decide) ?_
    refine A_icmp_le (t := 15) Γ dX0_text_10 (by decide) (fun c => ?_) (fun c => ?_)
    · replace h := it_t c h
      replace h := b1 h
      obtain ⟨k, e2, h⟩ := h
      refine A_iload_n Γ dX0_text_15 2 rfl ?_
      by_cases hn : a2 < 0
      · replace h := it_t hn h
        refine E_msg Γ Ξ hXT (by rw [hl]; exact htr) hRm xm_nas (by decide +kernel) (by decide) (tx_neg hn) hrows (xh_nas Γ hXT (by decide) (by decide)) (thr_nas Γ hn (Nat.le_of_ble_eq_true rfl) dX0_text_16) (fun ea => ?_)
        refine A_astore_n (G := gUp G eMc eMs) (lv' := [(3, .ref ea), (0, .ref (xo X)), (1, .int a1), (2, .int a2)]) Γ dX0_text_49 (by decide) rfl ?_
        refine A_aload_n (G := gUp G eMc eMs) Γ dX0_text_50 1 rfl ?_
        refine A_iconst (G := gUp G eMc eMs) (v := 5) Γ dX0_text_51 (by decide) ?_
        refine kX0_X0found (G := gUp G eMc eMs) Γ Ξ hRU (by decide) (by decide) h (Nat.le_of_ble_eq_true rfl) dX0_text_52 ?_
        exact hU _ _ dX0_text_55
      · replace h := it_f hn h
        obtain ⟨rfl, rfl⟩ := inj2 h
        have hle : a2.toNatClampNeg ≤ 40 := clamp_le c hn
        obtain ⟨N, hN31, rfl⟩ := nI_of hn
        rw [nI_clamp hN31] at hle hret
        refine A_newD Γ Ξ hXT (Or.inr ⟨rfl, rfl, rfl⟩) hn (nI_clamp hN31) (by omega) (by rw [hRm.1, hRm.2.1]; decide) (by rw [hRm.1, hRm.2.2]; show 0 + _ ≤ 2010; omega) dX0_text_16 (fun ad had => ?_)
        rw [texAt_0]
        have Γ' : Ok (gX G (gk G + 1) (gn G + N) (Pic 0 (xUp X ad))) RX0 cX0_text 5 := Γ
        have hlv : lv_args 0 [.ref (xo X), .int a1, .int (nI N)] = [(0, .ref (xo X)), (1, .int a1), (2, .int (nI N))] := rfl
        rw [hlv]
        refine A_astore_n (lv' := [(3, .ref (ad 119)), (0, .ref (xo X)), (1, .int a1), (2, .int (nI N))]) Γ' dX0_text_18 (by decide) rfl ?_
        refine A_iconst (v := 0) Γ' dX0_text_19 (by decide) ?_
        refine A_istore (lv' := [(4, .int 0), (3, .ref (ad 119)), (0, .ref (xo X)), (1, .int a1), (2, .int (nI N))]) Γ' dX0_text_20 (by decide) rfl ?_
        have hloop : ∀ m i, i + m = N → At (gX G (gk G + 1) (gn G + N) (Pic 0 (xUp X ad))) 5 (texAt σ N i) [(4, .int (nI i)), (3, .ref (ad 119)), (0, .ref (xo X)), (1, .int a1), (2, .int (nI N))] [] 22 := by
          intro m
          induction m with
          | zero =>
            intro i hi
            have hiN : i = N := by omega
            subst hiN
            refine A_iload Γ' dX0_text_22 0 rfl ?_
            refine A_iload_n Γ' dX0_text_24 4 rfl ?_
            refine A_icmp_ge (t := 40) Γ' dX0_text_25 (by decide) (fun _ => ?_) (fun c => ?_)
            · refine A_aload_n Γ' dX0_text_40 2 rfl ?_
              refine g0_6 (X := xUp X ad) Γ' (Ξ.up ad) dX0_text_41 ?_
              refine A_iload_n Γ' dX0_text_44 3 rfl ?_
              refine A_aload_n Γ' dX0_text_45 1 rfl ?_
              refine A_mov (X := xUp X ad) Γ' (Ξ.up ad) hXT (Or.inr ⟨rfl, rfl, rfl, rfl⟩) e2 (by unfold texAt; rw [cL_sL, if_pos rfl]; rfl) dX0_text_46 (fun ad2 => ?_)
              refine A_iload_n Γ dX0_text_47 4 rfl ?_
              refine A_up (k := eMc) (n := eMs) (by show gk G + 1 ≤ 3; rw [hRm.2.1]; decide) (by show gn G + i ≤ 2010; rw [hRm.2.2]; omega) ?_
              exact hret _ ad2 _ _ dX0_text_48 rfl
            · exact absurd (nI_le (Nat.le_refl _) hN31) c
          | succ m ih =>
            intro i hi
            refine A_iload Γ' dX0_text_22 0 rfl ?_
            refine A_iload_n Γ' dX0_text_24 4 rfl ?_
            refine A_icmp_ge (t := 40) Γ' dX0_text_25 (by decide) (fun c => ?_) (fun _ => ?_)
            · exact absurd c (nI_ge (by omega) hN31)
            · refine A_aload_n Γ' dX0_text_28 1 rfl ?_
              refine A_iload Γ' dX0_text_29 0 rfl ?_
              refine A_bipush (v := 32) Γ' dX0_text_31 (by decide) ?_
              refine A_bastD (X := xUp X ad) (q := 119) (σ1 := texAt σ N (i + 1)) Γ' (Ξ.up ad) ⟨by decide, by decide⟩ rfl (by rw [← texAt_s]; exact wrD_nI (n := N) (by unfold texAt; rw [cL_sL, if_pos rfl]) (by omega) hN31) dX0_text_33 ?_
              refine A_iinc (v := nI (i + 1)) (lv' := [(4, .int (nI (i + 1))), (3, .ref (ad 119)), (0, .ref (xo X)), (1, .int a1), (2, .int (nI N))]) Γ' dX0_text_34 0 rfl (nI_succ i).symm (by decide) rfl ?_
              refine A_goto (t := 22) Γ' dX0_text_37 (by decide) ?_
              exact ih (i + 1) (by omega)
        exact hloop N 0 (Nat.zero_add _)
    · replace h := it_f c h
      refine A_iconst (v := (-1)) Γ dX0_text_13 (by decide) ?_
      obtain ⟨rfl, rfl⟩ := inj2 h
      exact hup (hU _ _ dX0_text_14))
