noncomputable def c_in (a0 : Int32) (a1 : Int32) (a2 : Int32) : Option (Int32) :=
  B1 ((if a0 < a1 then
      (some 0)
    else
      (if a2 < a0 then
        (some 0)
      else
        (some 1))) : Option (Int32)) fun x2 =>
  B1 (bZ x2) fun v4 =>
  some v4
noncomputable def c_found (σ : St) (a1 : Int32) : Option (Int32 × St) :=
  B1 (rdA 6 (sI σ 0 a1) 1 a1) fun v1 =>
  B1 (wrA 6 (sI σ 0 a1) 1 a1 (v1 + 1)) fun σ3 =>
  some ((-3), σ3)
noncomputable def c_say (σ : St) (a1 : Int32) (a2 : Int32) : Option (Int32 × St) :=
  some (a2, sI σ 2 a1)
noncomputable def c_asked (σ : St)  : Option (Int32) :=
  some (cI σ 2)
noncomputable def c_fraction_L3  (x4 : Int64) (x5 : Int64) : Option ((Int64 × Int64) ⊕ (Int64)) :=
  if (lg_cmp x5 0) = 0 then
    (some (Sum.inr x4))
  else
    (B1 (nzL x5) fun v8 =>
    some (Sum.inl (x5, x4 - x4 / x5 * x5)))
noncomputable def c_fraction (σ : St) (a1 : Int64) (a3 : Int64) (a5 : Int32) : Option (Int32 × St) :=
  B1 (j_abs a1) fun v2 =>
  B1 (lq2 (c_fraction_L3) v2 a3) fun x6 =>
  B1 (nzL x6) fun v10 =>
  B1 (nzL x6) fun v12 =>
  some (a5, sJ (sJ σ 3 (a1 / x6)) 4 (a3 / x6))
noncomputable def c_upper (σ : St)  : Option (Int64) :=
  some (cJ σ 3)
noncomputable def c_lower (σ : St)  : Option (Int64) :=
  some (cJ σ 4)
noncomputable def c_isRow (a0 : Int32) : Option (Int32) :=
  B1 (c_in a0 0 5) fun v2 =>
  B1 (bZ v2) fun v4 =>
  some v4
noncomputable def c_tear (σ : St) (a1 : Int32) : Option (Int32 × St) :=
  B1 (c_isRow a1) fun v2 =>
  if v2 = 0 then
    (some ((-1), σ))
  else
    (B1 (ixA 6 a1) fun k3 =>
    if (cL σ (100 + k3)).isSome = true then
      (B1 (ixA 6 a1) fun k6 =>
      some (1, sL σ (100 + k6) none))
    else
      (B2 (c_found σ 1) fun v9 σ10 =>
      some (v9, σ10)))
noncomputable def c_isText (a0 : Int32) : Option (Int32) :=
  B1 (c_in a0 0 3) fun v2 =>
  B1 (bZ v2) fun v4 =>
  some v4
noncomputable def c_isFigure (σ : St) (a0 : Nat) (a1 : Int32) (a2 : Int32) : Option (Int32) :=
  B1 (cL σ a0) fun n1 =>
  B1 ((if (nI n1) ≤ a1 then
      (some 0)
    else
      (B1 (rdD σ a0 a1) fun v5 =>
      B1 (c_in v5 48 (48 + a2)) fun v8 =>
      if v8 = 0 then
        (some 0)
      else
        (some 1))) : Option (Int32)) fun x4 =>
  B1 (bZ x4) fun v10 =>
  some v10
noncomputable def c_whatOf (a0 : Int32) : Option (Int32) :=
  B1 ((if a0 = 70 then
      (some 0)
    else
      (if a0 = 68 then
        (some 1)
      else
        (if a0 = 72 then
          (some 2)
        else
          (if a0 = 82 then
            (some 3)
          else
            (some (-9)))))) : Option (Int32)) fun x2 =>
  some x2
noncomputable def c_read_L18 (a1 : Nat) (σ2 : St) (x19 : Int32) (x20 : Int32) (x21 : Int32) : Option ((Int32 × Int32 × Int32) ⊕ (Int32 × Int32)) :=
  if 4 ≤ x21 then
    (some (Sum.inr (x19, x20)))
  else
    (B1 (c_isFigure σ2 a1 x19 9) fun v25 =>
    if v25 = 0 then
      (some (Sum.inr (x19, x20)))
    else
      (B1 (rdD σ2 a1 x19) fun v26 =>
      some (Sum.inl (x19 + 1, ((10 * x20) + v26) - 48, x21 + 1))))
noncomputable def c_read_K13 (a1 : Nat) (σ2 : St) (v12 : Int32) (x14 : Int32) (x15 : Int32) : Option ((St × Int32) ⊕ ((St) ⊕ (Int32 × St))) :=
  B1 (c_isFigure σ2 a1 x14 9) fun v17 =>
  if v17 = 0 then
    (some (Sum.inr (Sum.inr (x14, σ2))))
  else
    (B2 (lq3 (c_read_L18 a1 σ2) x14 0 0) fun x22 x23 =>
    B1 (wrA 20 σ2 8 (cI σ2 7) v12) fun σ28 =>
    B1 (wrA 20 σ28 9 (cI σ28 7) x15) fun σ30 =>
    B1 (wrA 20 σ30 10 (cI σ30 7) x23) fun σ32 =>
    some (Sum.inl (sI σ32 7 ((cI σ32 7) + 1), x22)))
noncomputable def c_read_L1 (a1 : Nat) (σ2 : St) (x3 : Int32) : Option ((St × Int32) ⊕ ((St) ⊕ (Int32 × St))) :=
  B1 (cL σ2 a1) fun n5 =>
  if (nI n5) ≤ x3 then
    (some (Sum.inr (Sum.inl σ2)))
  else
    (B1 (rdD σ2 a1 x3) fun v7 =>
    if v7 = 32 then
      (some (Sum.inl (σ2, x3 + 1)))
    else
      (B1 (rdD σ2 a1 x3) fun v9 =>
      B1 (c_whatOf v9) fun v12 =>
      if v12 = (-9) then
        (some (Sum.inr (Sum.inr (x3, σ2))))
      else
        (if 2 ≤ v12 then
          (c_read_K13 a1 σ2 v12 (x3 + 1) 0)
        else
          (B1 (c_isFigure σ2 a1 (x3 + 1) 7) fun v35 =>
          if v35 = 0 then
            (some (Sum.inr (Sum.inr (x3 + 1, σ2))))
          else
            (B1 (rdD σ2 a1 (x3 + 1)) fun v36 =>
            c_read_K13 a1 σ2 v12 ((x3 + 1) + 1) (v36 - 48))))))
noncomputable def c_read (σ : St) (a1 : Nat) : Option (Int32 × St) :=
  BR1 (lq2 (c_read_L1 a1) (sI σ 7 0) 0) (fun σ4 =>
  some ((-9), σ4)) (fun r => some r)
noncomputable def c_fault (σ : St) (a1 : Int32) : Option (Int32 × St) :=
  B1 (c_isText a1) fun v2 =>
  if v2 = 0 then
    (some ((-1), σ))
  else
    (B1 (ixA 4 a1) fun k3 =>
    B2 ((if (cL σ (110 + k3)).isSome = true then
        (B1 (ixD σ 110 4 a1) fun k9 =>
        B2 (c_read σ (110 + k9)) fun v12 σ13 =>
        some (σ13, v12))
      else
        (B2 (c_found σ 1) fun v15 σ16 =>
        some (σ16, v15))) : Option (St × Int32)) fun σ7 x8 =>
    some (x8, σ7))
noncomputable def c_isMinute (a0 : Int32) : Option (Int32) :=
  B1 (c_in a0 0 99999) fun v2 =>
  B1 (bZ v2) fun v4 =>
  some v4
noncomputable def c_later (σ : St) (a1 : Int32) : Option (Int32 × St) :=
  if a1 < 0 then
    (some ((-1), σ))
  else
    (if a1 ≤ (99999 - (cI σ 11)) then
      (some (cI (sI σ 11 ((cI σ 11) + a1)) 11, sI σ 11 ((cI σ 11) + a1)))
    else
      (some ((-1), σ)))
noncomputable def c_isYard (a0 : Int32) : Option (Int32) :=
  B1 (c_in a0 0 7) fun v2 =>
  B1 (bZ v2) fun v4 =>
  some v4
noncomputable def c_both (σ : St) (a0 : Nat) (a1 : Int32) (a2 : Int32) (a3 : Int32) : Option (St) :=
  B1 (wrA 64 σ a0 ((8 * a1) + a2) a3) fun σ1 =>
  B1 (wrA 64 σ1 a0 ((8 * a2) + a1) a3) fun σ3 =>
  some σ3
noncomputable def c_way (σ : St) (a1 : Int32) (a2 : Int32) (a3 : Int32) (a4 : Int32) : Option (Int32 × St) :=
  B1 (c_isYard a1) fun v2 =>
  if v2 = 0 then
    (some ((-1), σ))
  else
    (B1 (c_isYard a2) fun v4 =>
    if v4 = 0 then
      (some ((-1), σ))
    else
      (if a1 = a2 then
        (some ((-1), σ))
      else
        (B1 (c_in a3 1 600) fun v6 =>
        if v6 = 0 then
          (some ((-1), σ))
        else
          (B1 (c_in a4 0 999) fun v8 =>
          if v8 = 0 then
            (some ((-1), σ))
          else
            (B1 (c_both σ 12 a1 a2 a3) fun σ10 =>
            B1 (c_both σ10 13 a1 a2 a4) fun σ12 =>
            B1 (c_both σ12 14 a1 a2 0) fun σ14 =>
            B1 (c_both σ14 15 a1 a2 0) fun σ16 =>
            some (1, σ16))))))
noncomputable def c_ferry (σ : St) (a1 : Int32) (a2 : Int32) (a3 : Int32) (a4 : Int32) : Option (Int32 × St) :=
  B1 (c_isYard a1) fun v2 =>
  if v2 = 0 then
    (some ((-1), σ))
  else
    (B1 (c_isYard a2) fun v4 =>
    if v4 = 0 then
      (some ((-1), σ))
    else
      (B1 (c_in a3 1 1440) fun v6 =>
      if v6 = 0 then
        (some ((-1), σ))
      else
        (B1 (c_in a4 0 (a3 - 1)) fun v8 =>
        if v8 = 0 then
          (some ((-1), σ))
        else
          (B1 (rdA 64 σ 12 ((8 * a1) + a2)) fun v9 =>
          if v9 = 0 then
            (B2 (c_found σ 1) fun v16 σ17 =>
            some (v16, σ17))
          else
            (B1 (c_both σ 14 a1 a2 a3) fun σ12 =>
            B1 (c_both σ12 15 a1 a2 a4) fun σ14 =>
            some (1, σ14))))))
noncomputable def c_over (σ : St) (a1 : Int32) (a2 : Int32) : Option (Int32) :=
  B1 (rdA 64 σ 14 a1) fun v1 =>
  B1 ((if v1 = 0 then
      (some 0)
    else
      (B1 (rdA 64 σ 15 a1) fun v5 =>
      B1 (j_floorMod (v5 - a2) v1) fun v8 =>
      some v8)) : Option (Int32)) fun x4 =>
  B1 (rdA 64 σ 12 a1) fun v9 =>
  some ((a2 + x4) + v9)
noncomputable def c_lead_L31 (a3 : Int32) (x18 : Int32) (σ32 : St) (x33 : Int32) : Option ((St × Int32) ⊕ (St)) :=
  if 8 ≤ x33 then
    (some (Sum.inr σ32))
  else
    (B1 (rdA 64 σ32 12 ((8 * x18) + x33)) fun v35 =>
    B1 ((if v35 ≤ 0 then
        (some σ32)
      else
        (B1 ((if a3 = 0 then
            (B1 (rdA 8 σ32 16 x18) fun v41 =>
            B1 (c_over σ32 ((8 * x18) + x33) v41) fun v44 =>
            some v44)
          else
            (B1 (rdA 8 σ32 16 x18) fun v45 =>
            B1 (rdA 64 σ32 13 ((8 * x18) + x33)) fun v47 =>
            some (v45 + v47))) : Option (Int32)) fun x40 =>
        B1 (rdA 8 σ32 16 x33) fun v49 =>
        B1 ((if v49 = (-9) then
            (some x40)
          else
            (B1 (rdA 8 σ32 16 x33) fun v53 =>
            if v53 ≤ x40 then
              (B1 (rdA 8 σ32 16 x33) fun v55 =>
              some v55)
            else
              (some x40))) : Option (Int32)) fun x52 =>
        B1 (wrA 8 σ32 16 x33 x52) fun σ57 =>
        some σ57)) : Option (St)) fun σ38 =>
    some (Sum.inl (σ38, x33 + 1)))
noncomputable def c_lead_L15 (σ12 : St) (x16 : Int32) (x17 : Int32) : Option ((Int32 × Int32) ⊕ (Int32)) :=
  if 8 ≤ x17 then
    (some (Sum.inr x16))
  else
    (B1 (rdA 8 σ12 17 x17) fun v19 =>
    B1 ((if v19 = 0 then
        (B1 (rdA 8 σ12 16 x17) fun v23 =>
        if v23 = (-9) then
          (some x16)
        else
          (if x16 = (-9) then
            (some x17)
          else
            (B1 (rdA 8 σ12 16 x17) fun v25 =>
            B1 (rdA 8 σ12 16 x16) fun v27 =>
            if v27 ≤ v25 then
              (some x16)
            else
              (some x17))))
      else
        (some x16)) : Option (Int32)) fun x22 =>
    some (Sum.inl (x22, x17 + 1)))
noncomputable def c_lead_L11 (a3 : Int32) (σ12 : St) (x13 : Int32) : Option ((St × Int32) ⊕ ((St) ⊕ (St))) :=
  if 8 ≤ x13 then
    (some (Sum.inr (Sum.inl σ12)))
  else
    (B1 (lq2 (c_lead_L15 σ12) (-9) 0) fun x18 =>
    if x18 = (-9) then
      (some (Sum.inr (Sum.inr σ12)))
    else
      (B1 (wrA 8 σ12 17 x18 (vp_nar .boolean 1)) fun σ29 =>
      B1 (lq2 (c_lead_L31 a3 x18) σ29 0) fun σ34 =>
      some (Sum.inl (σ34, x13 + 1))))
noncomputable def c_lead_L1 (a1 : Int32) (a2 : Int32) (σ2 : St) (x3 : Int32) : Option ((St × Int32) ⊕ (St)) :=
  if 8 ≤ x3 then
    (some (Sum.inr σ2))
  else
    (B1 ((if x3 = a1 then
        (some a2)
      else
        (some (-9))) : Option (Int32)) fun x6 =>
    B1 (wrA 8 σ2 16 x3 x6) fun σ7 =>
    B1 (wrA 8 σ7 17 x3 (vp_nar .boolean 0)) fun σ9 =>
    some (Sum.inl (σ9, x3 + 1)))
noncomputable def c_lead (σ : St) (a1 : Int32) (a2 : Int32) (a3 : Int32) : Option (St) :=
  B1 (lq2 (c_lead_L1 a1 a2) σ 0) fun σ4 =>
  BR1 (lq2 (c_lead_L11 a3) σ4 0) (fun σ14 =>
  some σ14) (fun r => some r)
noncomputable def c_comesTo (σ : St) (a1 : Int32) (a2 : Int32) (a3 : Int32) : Option (Int32 × St) :=
  B1 (c_lead σ a1 a2 0) fun σ2 =>
  B1 (rdA 8 σ2 16 a3) fun v3 =>
  some (v3, σ2)
noncomputable def c_comes (σ : St) (a1 : Int32) (a2 : Int32) (a3 : Int32) : Option (Int32 × St) :=
  B1 (c_isYard a1) fun v2 =>
  if v2 = 0 then
    (some ((-1), σ))
  else
    (B1 (c_isMinute a2) fun v4 =>
    if v4 = 0 then
      (some ((-1), σ))
    else
      (B1 (c_isYard a3) fun v6 =>
      if v6 = 0 then
        (some ((-1), σ))
      else
        (B2 (c_comesTo σ a1 a2 a3) fun v8 σ9 =>
        B2 ((if v8 = (-9) then
            (B2 (c_found σ9 1) fun v14 σ15 =>
            some (σ15, v14))
          else
            (some (σ9, v8))) : Option (St × Int32)) fun σ11 x12 =>
        some (x12, σ11))))
noncomputable def c_toll (σ : St) (a1 : Int32) (a2 : Int32) : Option (Int32 × St) :=
  B1 (c_isYard a1) fun v2 =>
  if v2 = 0 then
    (some ((-1), σ))
  else
    (B1 (c_isYard a2) fun v4 =>
    if v4 = 0 then
      (some ((-1), σ))
    else
      (B1 (c_lead σ a1 0 1) fun σ6 =>
      B1 (rdA 8 σ6 16 a2) fun v7 =>
      B2 ((if v7 = (-9) then
          (B2 (c_found σ6 1) fun v15 σ16 =>
          some (σ16, v15))
        else
          (B1 (rdA 8 σ6 16 a2) fun v12 =>
          some (σ6, v12))) : Option (St × Int32)) fun σ10 x11 =>
      some (x11, σ10)))
noncomputable def c_isTrailer (σ : St) (a1 : Int32) : Option (Int32) :=
  B1 (c_in a1 0 ((cI σ 19) - 1)) fun v2 =>
  B1 (bZ v2) fun v4 =>
  some v4
noncomputable def c_enter (σ : St) (a1 : Int32) (a2 : Int32) (a3 : Int32) (a4 : Int32) : Option (St) :=
  B1 (wrA 60 σ 23 (cI σ 22) a1) fun σ1 =>
  B1 (wrA 60 σ1 24 (cI σ1 22) a2) fun σ3 =>
  B1 (wrA 60 σ3 25 (cI σ3 22) (cI σ3 11)) fun σ5 =>
  B1 (wrA 60 σ5 26 (cI σ5 22) a3) fun σ7 =>
  B1 (wrA 60 σ7 27 (cI σ7 22) a4) fun σ9 =>
  some (sI σ9 22 ((cI σ9 22) + 1))
noncomputable def c_entryOf_L1 (σ : St) (a1 : Int32) (a2 : Int32) (x2 : Int32) (x3 : Int32) : Option ((Int32 × Int32) ⊕ ((Unit) ⊕ (Int32))) :=
  if (cI σ 22) ≤ x3 then
    (some (Sum.inr (Sum.inl ())))
  else
    (B1 (rdA 60 σ 23 x3) fun v5 =>
    if v5 = a1 then
      (if x2 = a2 then
        (some (Sum.inr (Sum.inr x3)))
      else
        (some (Sum.inl (x2 + 1, x3 + 1))))
    else
      (some (Sum.inl (x2, x3 + 1))))
noncomputable def c_entryOf (σ : St) (a1 : Int32) (a2 : Int32) : Option (Int32) :=
  BR1 (lq2 (c_entryOf_L1 σ a1 a2) 0 0) (fun u4 =>
  some (-9)) (fun r => some r)
noncomputable def c_tells (σ : St) (a0 : Nat) (a1 : Int32) : Option (Int32) :=
  if a1 = 0 then
    (B1 (cL σ a0) fun n1 =>
    some (nI n1))
  else if a1 = 1 then
    (B1 (rdT σ a0 2) fun v5 =>
    some v5)
  else if a1 = 2 then
    (B1 (rdT σ a0 3) fun v7 =>
    some v7)
  else if a1 = 3 then
    (B1 (rdT σ a0 4) fun v9 =>
    B1 ((if v9 = 0 then
        (some 0)
      else
        (some 1)) : Option (Int32)) fun x12 =>
    some x12)
  else if a1 = 4 then
    (B1 (rdT σ a0 1) fun v13 =>
    some v13)
  else if a1 = 5 then
    (B1 (rdT σ a0 6) fun v15 =>
    some v15)
  else if a1 = 6 then
    (B1 (rdT σ a0 7) fun v17 =>
    some v17)
  else (B1 (rdT σ a0 5) fun v19 =>
    B1 ((if v19 = 0 then
        (some 0)
      else
        (some 1)) : Option (Int32)) fun x22 =>
    some x22)
noncomputable def c_told (σ : St) (a1 : Int32) (a2 : Int32) : Option (Int32 × St) :=
  B1 (c_isTrailer σ a1) fun v2 =>
  B2 ((if v2 = 0 then
      (some (σ, (-1)))
    else
      (B1 (c_in a2 0 7) fun v7 =>
      if v7 = 0 then
        (some (σ, (-1)))
      else
        (B1 (ixD σ 120 12 a1) fun k8 =>
        B1 (c_tells σ (120 + k8) a2) fun v11 =>
        B2 (c_say σ v11 1) fun v13 σ14 =>
        some (σ14, v13)))) : Option (St × Int32)) fun σ4 x5 =>
  some (x5, σ4)
noncomputable def c_isTractor (a0 : Int32) : Option (Int32) :=
  B1 (c_in a0 0 5) fun v2 =>
  B1 (bZ v2) fun v4 =>
  some v4
noncomputable def c_isOnWay (σ : St) (a1 : Int32) : Option (Int32) :=
  B1 (rdA 6 σ 29 a1) fun v1 =>
  B1 ((if v1 ≤ (cI σ 11) then
      (some 0)
    else
      (some 1)) : Option (Int32)) fun x4 =>
  B1 (bZ x4) fun v6 =>
  some v6
noncomputable def c_park (σ : St) (a1 : Int32) (a2 : Int32) : Option (Int32 × St) :=
  B1 (c_isTractor a1) fun v2 =>
  if v2 = 0 then
    (some ((-1), σ))
  else
    (B1 (c_isYard a2) fun v4 =>
    if v4 = 0 then
      (some ((-1), σ))
    else
      (B1 (c_isOnWay σ a1) fun v6 =>
      if v6 = 0 then
        (B1 (wrA 6 σ 28 a1 a2) fun σ7 =>
        B1 (wrA 6 σ7 29 a1 (cI σ7 11)) fun σ9 =>
        B1 (wrA 6 σ9 31 a1 0) fun σ11 =>
        some (1, σ11))
      else
        (some ((-4), σ))))
noncomputable def c_hitch (σ : St) (a1 : Int32) (a2 : Int32) : Option (Int32 × St) :=
  B1 (c_isTractor a1) fun v2 =>
  if v2 = 0 then
    (some ((-1), σ))
  else
    (B1 (c_isTrailer σ a2) fun v4 =>
    if v4 = 0 then
      (some ((-1), σ))
    else
      (B1 (ixD σ 120 12 a2) fun k5 =>
      B1 (c_isOnWay σ a1) fun v8 =>
      if v8 = 0 then
        (B1 (rdA 6 σ 30 a1) fun v9 =>
        if v9 = (-9) then
          (B1 (rdT σ (120 + k5) 2) fun v11 =>
          B1 (rdA 6 σ 28 a1) fun v13 =>
          if v11 = v13 then
            (if (cI σ 22) = 60 then
              (some ((-2), σ))
            else
              (B1 (rdT σ (120 + k5) 2) fun v15 =>
              B1 (c_enter σ a2 1 a1 v15) fun σ18 =>
              B1 (wrA 6 σ18 30 a1 a2) fun σ19 =>
              B1 (wrT σ19 (120 + k5) 3 a1) fun σ21 =>
              B1 (wrT σ21 (120 + k5) 2 (-9)) fun σ23 =>
              some (1, σ23)))
          else
            (some ((-4), σ)))
        else
          (some ((-4), σ)))
      else
        (some ((-4), σ))))
noncomputable def c_drop (σ : St) (a1 : Int32) : Option (Int32 × St) :=
  B1 (c_isTractor a1) fun v2 =>
  if v2 = 0 then
    (some ((-1), σ))
  else
    (B1 (c_isOnWay σ a1) fun v4 =>
    if v4 = 0 then
      (B1 (rdA 6 σ 30 a1) fun v5 =>
      if v5 = (-9) then
        (some ((-4), σ))
      else
        (if (cI σ 22) = 60 then
          (some ((-2), σ))
        else
          (B1 (rdA 6 σ 30 a1) fun v7 =>
          B1 (ixD σ 120 12 v7) fun k9 =>
          B1 (wrT σ (120 + k9) 3 (-9)) fun σ11 =>
          B1 (ixD σ11 120 12 v7) fun k13 =>
          B1 (rdA 6 σ11 28 a1) fun v15 =>
          B1 (wrT σ11 (120 + k13) 2 v15) fun σ17 =>
          B1 (wrA 6 σ17 30 a1 (-9)) fun σ19 =>
          B1 (rdA 6 σ19 28 a1) fun v21 =>
          B1 (rdA 6 σ19 28 a1) fun v23 =>
          B1 (c_enter σ19 v7 0 v21 v23) fun σ26 =>
          some (v7, σ26))))
    else
      (some ((-4), σ)))
noncomputable def c_forceOf_L8 (σ : St) (a1 : Int32) (a2 : Int32) (a3 : Int32) (a4 : Int32) (x6 : Int32) (x9 : Int32) (x10 : Int32) (x11 : Int32) : Option ((Int32 × Int32 × Int32) ⊕ (Int32 × Int32)) :=
  B1 (rdA 20 σ 36 x6) fun v14 =>
  if ((20 * x6) + v14) ≤ x11 then
    (some (Sum.inr (x9, x10)))
  else
    (B1 (rdA 400 σ 37 x11) fun v16 =>
    B1 ((if v16 = a1 then
        (if 1 < a1 then
          (some 1)
        else
          (B1 (rdA 400 σ 38 x11) fun v20 =>
          if v20 = a2 then
            (some 1)
          else
            (some 0)))
      else
        (some 0)) : Option (Int32)) fun x19 =>
    B2 ((if x19 = 0 then
        (some (x9, x10))
      else
        (B1 (rdA 20 σ 34 x6) fun v25 =>
        if a4 < v25 then
          (some (x9, x10))
        else
          (B1 (rdA 20 σ 35 x6) fun v27 =>
          if a3 < v27 then
            (some (x9, x10))
          else
            (B1 (rdA 20 σ 35 x6) fun v29 =>
            if v29 < x10 then
              (some (x9, x10))
            else
              (B1 (rdA 400 σ 39 x11) fun v31 =>
              B1 (rdA 20 σ 35 x6) fun v33 =>
              some (v31, v33)))))) : Option (Int32 × Int32)) fun x23 x24 =>
    some (Sum.inl (x23, x24, x11 + 1)))
noncomputable def c_forceOf_L3 (σ : St) (a1 : Int32) (a2 : Int32) (a3 : Int32) (a4 : Int32) (x4 : Int32) (x5 : Int32) (x6 : Int32) : Option ((Int32 × Int32 × Int32) ⊕ (Int32)) :=
  if (cI σ 33) ≤ x6 then
    (some (Sum.inr x4))
  else
    (B2 (lq3 (c_forceOf_L8 σ a1 a2 a3 a4 x6) x4 x5 (20 * x6)) fun x12 x13 =>
    some (Sum.inl (x12, x13, x6 + 1)))
noncomputable def c_forceOf (σ : St) (a1 : Int32) (a2 : Int32) (a3 : Int32) (a4 : Int32) : Option (Int32) :=
  B1 ((if a1 = 0 then
      (some 120)
    else
      (if a1 = 1 then
        (some 0)
      else
        (if a1 = 2 then
          (some 600)
        else
          (some 480)))) : Option (Int32)) fun x2 =>
  B1 (lq3 (c_forceOf_L3 σ a1 a2 a3 a4) x2 (-9) 0) fun x7 =>
  some x7
noncomputable def c_go (σ : St) (a1 : Int32) (a2 : Int32) : Option (Int32 × St) :=
  B1 (c_isTractor a1) fun v2 =>
  if v2 = 0 then
    (some ((-1), σ))
  else
    (B1 (c_isYard a2) fun v4 =>
    if v4 = 0 then
      (some ((-1), σ))
    else
      (B1 (rdA 6 σ 28 a1) fun v5 =>
      if a2 = v5 then
        (some ((-1), σ))
      else
        (B1 (c_isOnWay σ a1) fun v8 =>
        if v8 = 0 then
          (B1 (rdA 6 σ 28 a1) fun v9 =>
          B2 (c_comesTo σ v9 (cI σ 11) a2) fun v12 σ13 =>
          if v12 = (-9) then
            (B2 (c_found σ13 1) fun v37 σ38 =>
            some (v37, σ38))
          else
            (B1 (rdA 6 σ13 29 a1) fun v14 =>
            B1 (c_forceOf σ13 3 0 ((cI σ13 11) / 1440) ((cI σ13 11) / 1440)) fun v17 =>
            B1 ((if ((cI σ13 11) - v14) < v17 then
                (some 0)
              else
                (some 1)) : Option (Int32)) fun x19 =>
            B1 ((if x19 = 0 then
                (B1 (rdA 6 σ13 31 a1) fun v22 =>
                some v22)
              else
                (some 0)) : Option (Int32)) fun x21 =>
            if 99999 < v12 then
              (some ((-4), σ13))
            else
              (B1 (c_forceOf σ13 2 0 ((cI σ13 11) / 1440) ((cI σ13 11) / 1440)) fun v25 =>
              if ((x21 + v12) - (cI σ13 11)) ≤ v25 then
                (B1 (wrA 6 σ13 31 a1 ((x21 + v12) - (cI σ13 11))) fun σ26 =>
                B1 (rdA 6 σ26 32 a1) fun v28 =>
                B1 (wrA 6 σ26 32 a1 (v28 + (v12 - (cI σ26 11)))) fun σ30 =>
                B1 (wrA 6 σ30 28 a1 a2) fun σ32 =>
                B1 (wrA 6 σ32 29 a1 v12) fun σ34 =>
                some (v12, σ34))
              else
                (some ((-4), σ13)))))
        else
          (some ((-4), σ)))))
noncomputable def c_tractorTells (σ : St) (a1 : Int32) (a2 : Int32) : Option (Int32) :=
  if a2 = 0 then
    (B1 (rdA 6 σ 28 a1) fun v1 =>
    some v1)
  else if a2 = 1 then
    (B1 (rdA 6 σ 29 a1) fun v3 =>
    some v3)
  else if a2 = 2 then
    (B1 (rdA 6 σ 30 a1) fun v5 =>
    some v5)
  else if a2 = 3 then
    (B1 (rdA 6 σ 31 a1) fun v7 =>
    some v7)
  else (B1 (rdA 6 σ 32 a1) fun v9 =>
    some v9)
noncomputable def c_tractor (σ : St) (a1 : Int32) (a2 : Int32) : Option (Int32 × St) :=
  B1 (c_isTractor a1) fun v2 =>
  B2 ((if v2 = 0 then
      (some (σ, (-1)))
    else
      (B1 (c_in a2 0 4) fun v7 =>
      if v7 = 0 then
        (some (σ, (-1)))
      else
        (B1 (c_tractorTells σ a1 a2) fun v9 =>
        B2 (c_say σ v9 1) fun v11 σ12 =>
        some (σ12, v11)))) : Option (St × Int32)) fun σ4 x5 =>
  some (x5, σ4)
noncomputable def c_lose (σ : St) (a1 : Int32) : Option (Int32 × St) :=
  B1 (c_isTrailer σ a1) fun v2 =>
  if v2 = 0 then
    (some ((-1), σ))
  else
    (B1 (ixD σ 120 12 a1) fun k3 =>
    B1 (rdT σ (120 + k3) 4) fun v5 =>
    if v5 = 0 then
      (if (cI σ 22) = 60 then
        (some ((-2), σ))
      else
        (B1 (rdT σ (120 + k3) 3) fun v7 =>
        B1 ((if v7 = (-9) then
            (some σ)
          else
            (B1 (rdT σ (120 + k3) 3) fun v11 =>
            B1 (wrA 6 σ 30 v11 (-9)) fun σ13 =>
            some σ13)) : Option (St)) fun σ10 =>
        B1 (wrT σ10 (120 + k3) 3 (-9)) fun σ15 =>
        B1 (wrT σ15 (120 + k3) 2 (-9)) fun σ17 =>
        B1 (wrT σ17 (120 + k3) 4 1) fun σ19 =>
        B1 (c_enter σ19 a1 2 (-9) (-9)) fun σ22 =>
        some (1, σ22)))
    else
      (some ((-4), σ)))
noncomputable def c_find (σ : St) (a1 : Int32) (a2 : Int32) : Option (Int32 × St) :=
  B1 (c_isTrailer σ a1) fun v2 =>
  if v2 = 0 then
    (some ((-1), σ))
  else
    (B1 (c_isYard a2) fun v4 =>
    if v4 = 0 then
      (some ((-1), σ))
    else
      (B1 (ixD σ 120 12 a1) fun k5 =>
      B1 (rdT σ (120 + k5) 4) fun v7 =>
      if v7 = 0 then
        (some ((-4), σ))
      else
        (if (cI σ 22) = 60 then
          (some ((-2), σ))
        else
          (B1 (wrT σ (120 + k5) 4 0) fun σ9 =>
          B1 (wrT σ9 (120 + k5) 2 a2) fun σ11 =>
          B1 (c_enter σ11 a1 0 a2 a2) fun σ14 =>
          some (1, σ14)))))
noncomputable def c_seal (σ : St) (a1 : Int32) (a2 : Int32) : Option (Int32 × St) :=
  B1 (c_isTrailer σ a1) fun v2 =>
  if v2 = 0 then
    (some ((-1), σ))
  else
    (B1 (c_in a2 3 5) fun v4 =>
    if v4 = 0 then
      (some ((-1), σ))
    else
      (B1 (ixD σ 120 12 a1) fun k5 =>
      B1 (rdT σ (120 + k5) 4) fun v7 =>
      if v7 = 0 then
        (B1 (rdT σ (120 + k5) 5) fun v9 =>
        B1 ((if a2 = 3 then
            (some 1)
          else
            (some 0)) : Option (Int32)) fun x12 =>
        if v9 = x12 then
          (some ((-4), σ))
        else
          (if (cI σ 22) = 60 then
            (some ((-2), σ))
          else
            (B1 ((if a2 = 5 then
                (some 0)
              else
                (some 1)) : Option (Int32)) fun x14 =>
            B1 (bZ x14) fun v18 =>
            B1 (wrT σ (120 + k5) 5 v18) fun σ15 =>
            B1 (c_enter σ15 a1 a2 (-9) (-9)) fun σ20 =>
            some (1, σ20))))
      else
        (some ((-4), σ))))
noncomputable def c_book (σ : St) (a1 : Int32) (a2 : Int32) (a3 : Int32) : Option (Int32) :=
  B1 (c_isTrailer σ a1) fun v2 =>
  if v2 = 0 then
    (some (-1))
  else
    (B1 (c_in a3 0 2) fun v4 =>
    if v4 = 0 then
      (some (-1))
    else
      (B1 (c_entryOf σ a1 a2) fun v6 =>
      B1 ((if v6 = (-9) then
          (some (-9))
        else
          (if a3 = 0 then
            (B1 (rdA 60 σ 24 v6) fun v13 =>
            some v13)
          else
            (if a3 = 1 then
              (B1 (rdA 60 σ 25 v6) fun v11 =>
              some v11)
            else
              (B1 (rdA 60 σ 26 v6) fun v9 =>
              some v9)))) : Option (Int32)) fun x8 =>
      some x8))
noncomputable def c_where_L5 (σ : St) (a1 : Int32) (a2 : Int32) (x6 : Int32) (x7 : Int32) : Option ((Int32 × Int32) ⊕ (Int32)) :=
  if (cI σ 22) ≤ x7 then
    (some (Sum.inr x6))
  else
    (B1 (rdA 60 σ 23 x7) fun v9 =>
    B1 ((if v9 = a1 then
        (B1 (rdA 60 σ 24 x7) fun v13 =>
        if 3 ≤ v13 then
          (some x6)
        else
          (B1 (rdA 60 σ 25 x7) fun v15 =>
          if a2 < v15 then
            (some x6)
          else
            (B1 (rdA 60 σ 24 x7) fun v17 =>
            B1 ((if v17 = 0 then
                (B1 (rdA 60 σ 26 x7) fun v25 =>
                some v25)
              else
                (B1 (rdA 60 σ 24 x7) fun v21 =>
                if v21 = 1 then
                  (B1 (rdA 60 σ 26 x7) fun v23 =>
                  some (10 + v23))
                else
                  (some 20))) : Option (Int32)) fun x20 =>
            some x20)))
      else
        (some x6)) : Option (Int32)) fun x12 =>
    some (Sum.inl (x12, x7 + 1)))
noncomputable def c_where (σ : St) (a1 : Int32) (a2 : Int32) : Option (Int32) :=
  B1 (c_isTrailer σ a1) fun v2 =>
  if v2 = 0 then
    (some (-1))
  else
    (B1 (c_in a2 0 (cI σ 11)) fun v4 =>
    if v4 = 0 then
      (some (-1))
    else
      (B1 (lq2 (c_where_L5 σ a1 a2) (-9) 0) fun x8 =>
      some x8))
noncomputable def c_isDay (a0 : Int32) : Option (Int32) :=
  B1 (c_in a0 0 69) fun v2 =>
  B1 (bZ v2) fun v4 =>
  some v4
noncomputable def c_terms (σ : St) (a1 : Int32) (a2 : Int32) : Option (Int32 × St) :=
  B1 (c_isText a1) fun v2 =>
  if v2 = 0 then
    (some ((-1), σ))
  else
    (B1 (c_isDay a2) fun v4 =>
    if v4 = 0 then
      (some ((-1), σ))
    else
      (if (cI σ 33) = 20 then
        (some ((-2), σ))
      else
        (B1 (ixA 4 a1) fun k5 =>
        if (cL σ (110 + k5)).isSome = true then
          (B1 (ixD σ 110 4 a1) fun k8 =>
          B2 (c_read σ (110 + k8)) fun v11 σ12 =>
          if v11 = (-9) then
            (B1 (wrA 20 σ12 34 (cI σ12 33) ((cI σ12 11) / 1440)) fun σ13 =>
            B1 (wrA 20 σ13 35 (cI σ13 33) a2) fun σ15 =>
            B1 (wrA 20 σ15 36 (cI σ15 33) (cI σ15 7)) fun σ17 =>
            B1 (cpA 20 400 σ17 8 0 37 (20 * (cI σ17 33)) (cI σ17 7)) fun σ19 =>
            B1 (cpA 20 400 σ19 9 0 38 (20 * (cI σ19 33)) (cI σ19 7)) fun σ21 =>
            B1 (cpA 20 400 σ21 10 0 39 (20 * (cI σ21 33)) (cI σ21 7)) fun σ23 =>
            some ((cI (sI σ23 33 ((cI σ23 33) + 1)) 33) - 1, sI σ23 33 ((cI σ23 33) + 1)))
          else
            (some ((-4), σ12)))
        else
          (B2 (c_found σ 1) fun v26 σ27 =>
          some (v26, σ27)))))
noncomputable def c_force (σ : St) (a1 : Int32) (a2 : Int32) (a3 : Int32) (a4 : Int32) : Option (Int32) :=
  B1 (c_in a1 0 3) fun v2 =>
  B1 ((if v2 = 0 then
      (some (-1))
    else
      (if 1 < a1 then
        (B1 (c_isDay a3) fun v6 =>
        if v6 = 0 then
          (some (-1))
        else
          (B1 (c_isDay a4) fun v8 =>
          if v8 = 0 then
            (some (-1))
          else
            (B1 (c_forceOf σ a1 a2 a3 a4) fun v10 =>
            some v10)))
      else
        (B1 (c_isYard a2) fun v12 =>
        if v12 = 0 then
          (some (-1))
        else
          (B1 (c_isDay a3) fun v14 =>
          if v14 = 0 then
            (some (-1))
          else
            (B1 (c_isDay a4) fun v16 =>
            if v16 = 0 then
              (some (-1))
            else
              (B1 (c_forceOf σ a1 a2 a3 a4) fun v18 =>
              some v18)))))) : Option (Int32)) fun x4 =>
  some x4
noncomputable def c_pence (σ : St)  : Option (Int64) :=
  some (cJ σ 40)
noncomputable def c_leftAt_L1 (σ : St) (a1 : Int32) (x2 : Int32) : Option ((Int32) ⊕ ((Unit) ⊕ (Int32))) :=
  if (cI σ 22) ≤ x2 then
    (some (Sum.inr (Sum.inl ())))
  else
    (B1 (rdA 60 σ 23 x2) fun v4 =>
    B1 (rdA 60 σ 23 a1) fun v6 =>
    if v4 = v6 then
      (B1 (rdA 60 σ 24 x2) fun v8 =>
      if v8 = 1 then
        (B1 (rdA 60 σ 25 x2) fun v10 =>
        some (Sum.inr (Sum.inr v10)))
      else
        (B1 (rdA 60 σ 24 x2) fun v12 =>
        if v12 = 2 then
          (B1 (rdA 60 σ 25 x2) fun v14 =>
          some (Sum.inr (Sum.inr v14)))
        else
          (some (Sum.inl (x2 + 1)))))
    else
      (some (Sum.inl (x2 + 1))))
noncomputable def c_leftAt (σ : St) (a1 : Int32) : Option (Int32) :=
  BR1 (lq1 (c_leftAt_L1 σ a1) (a1 + 1)) (fun u3 =>
  some (cI σ 11)) (fun r => some r)
noncomputable def c_detention_L3 (σ : St) (a1 : Int32) (x4 : Int64) (x5 : Int32) (x6 : Int32) : Option ((Int64 × Int32 × Int32) ⊕ (Int64 × Int32)) :=
  if (cI σ 22) ≤ x6 then
    (some (Sum.inr (x4, x5)))
  else
    (B1 (rdA 60 σ 23 x6) fun v9 =>
    B2 ((if v9 = a1 then
        (B1 (rdA 60 σ 24 x6) fun v14 =>
        if v14 = 0 then
          (B1 (rdA 60 σ 25 x6) fun v16 =>
          B1 (c_leftAt σ x6) fun v19 =>
          B1 (rdA 60 σ 25 x6) fun v20 =>
          B1 (rdA 60 σ 26 x6) fun v22 =>
          B1 (c_forceOf σ 0 v22 (v16 / 1440) (v16 / 1440)) fun v25 =>
          if ((v19 - v20) - v25) ≤ 0 then
            (some (x4, x5))
          else
            (B1 (rdA 60 σ 26 x6) fun v26 =>
            B1 (c_forceOf σ 1 v26 (v16 / 1440) (v16 / 1440)) fun v29 =>
            some (x4 + ((((((v19 - v20) - v25) + 59) / 60).toInt64) * v29.toInt64), x5 + 1)))
        else
          (some (x4, x5)))
      else
        (some (x4, x5))) : Option (Int64 × Int32)) fun x12 x13 =>
    some (Sum.inl (x12, x13, x6 + 1)))
noncomputable def c_detention (σ : St) (a1 : Int32) : Option (Int32 × St) :=
  B1 (c_isTrailer σ a1) fun v2 =>
  if v2 = 0 then
    (some ((-1), σ))
  else
    (B2 (lq3 (c_detention_L3 σ a1) 0 0 0) fun x7 x8 =>
    some (x8, sJ σ 40 x7))
noncomputable def c_law (σ : St) (a1 : Int32) (a2 : Int32) : Option (Int32 × St) :=
  B1 (c_in a1 0 100000) fun v2 =>
  if v2 = 0 then
    (some ((-1), σ))
  else
    (B1 (c_in a2 0 100000) fun v4 =>
    if v4 = 0 then
      (some ((-1), σ))
    else
      (some (1, sI (sI σ 20 a1) 21 a2)))
noncomputable def c_load (σ : St) (a1 : Int32) (a2 : Int32) (a3 : Int32) : Option (Int32 × St) :=
  B1 (c_isTrailer σ a1) fun v2 =>
  if v2 = 0 then
    (some ((-1), σ))
  else
    (B1 (c_in a2 1 20000) fun v4 =>
    if v4 = 0 then
      (some ((-1), σ))
    else
      (B1 (c_in a3 0 130) fun v6 =>
      if v6 = 0 then
        (some ((-1), σ))
      else
        (B1 (ixD σ 120 12 a1) fun k7 =>
        B1 (rdT σ (120 + k7) 7) fun v9 =>
        if v9 = 6 then
          (some ((-2), σ))
        else
          (B1 (cL σ (120 + k7)) fun n11 =>
          B1 (rdT σ (120 + k7) 7) fun v13 =>
          B1 (wrD σ (120 + k7 + 20) v13 a2) fun σ15 =>
          B1 (cL σ15 (120 + k7)) fun n17 =>
          B1 (rdT σ15 (120 + k7) 7) fun v19 =>
          B1 (wrD σ15 (120 + k7 + 40) v19 a3) fun σ21 =>
          B1 (rdT σ21 (120 + k7) 7) fun v23 =>
          B1 (wrT σ21 (120 + k7) 7 (v23 + 1)) fun σ25 =>
          B1 (rdT σ25 (120 + k7) 7) fun v27 =>
          some (v27, σ25)))))
noncomputable def c_unload (σ : St) (a1 : Int32) : Option (Int32 × St) :=
  B1 (c_isTrailer σ a1) fun v2 =>
  if v2 = 0 then
    (some ((-1), σ))
  else
    (B1 (ixD σ 120 12 a1) fun k3 =>
    B1 (rdT σ (120 + k3) 7) fun v5 =>
    B1 (ixD σ 120 12 a1) fun k7 =>
    B1 (wrT σ (120 + k7) 7 0) fun σ9 =>
    some (v5, σ9))
noncomputable def c_slide (σ : St) (a1 : Int32) (a2 : Int32) : Option (Int32 × St) :=
  B1 (c_isTrailer σ a1) fun v2 =>
  if v2 = 0 then
    (some ((-1), σ))
  else
    (B1 (c_in a2 60 120) fun v4 =>
    if v4 = 0 then
      (some ((-1), σ))
    else
      (B1 (ixD σ 120 12 a1) fun k5 =>
      B1 (rdT σ (120 + k5) 6) fun v7 =>
      B1 (ixD σ 120 12 a1) fun k9 =>
      B1 (wrT σ (120 + k9) 6 a2) fun σ11 =>
      some (v7, σ11)))
noncomputable def c_weight (σ : St) (a1 : Int32) (a2 : Int32) : Option (Int32 × St) :=
  B1 (c_isTrailer σ a1) fun v2 =>
  if v2 = 0 then
    (some ((-1), σ))
  else
    (B1 (ixD σ 120 12 a1) fun k3 =>
    B1 (cL σ (120 + k3)) fun n5 =>
    B1 (t_turning σ (120 + k3)) fun v7 =>
    B1 ((if a2 = 0 then
        (some v7)
      else
        (B1 (cL σ (120 + k3)) fun n11 =>
        B1 (t_all σ (120 + k3)) fun v13 =>
        B1 (rdT σ (120 + k3) 6) fun v15 =>
        some ((v13 * v15.toInt64) - v7))) : Option (Int64)) fun x10 =>
    B1 (rdT σ (120 + k3) 6) fun v17 =>
    B2 (c_fraction σ x10 v17.toInt64 1) fun v20 σ21 =>
    some (v20, σ21))
noncomputable def c_lawful (σ : St) (a1 : Int32) : Option (Int32) :=
  B1 (c_isTrailer σ a1) fun v2 =>
  B1 ((if v2 = 0 then
      (some (-1))
    else
      (B1 (ixD σ 120 12 a1) fun k5 =>
      B1 (ixD σ 120 12 a1) fun k7 =>
      B1 (rdT σ (120 + k7) 6) fun v9 =>
      B1 (cL σ (120 + k5)) fun n11 =>
      B1 (t_isLawful σ (120 + k5) v9) fun v13 =>
      if v13 = 0 then
        (some 0)
      else
        (some 1))) : Option (Int32)) fun x4 =>
  some x4
noncomputable def c_shift_K10 (σ : St) (k3 : Nat) (x6 : Int32)  : Option ((Int32) ⊕ ((Unit) ⊕ (Int32))) :=
  B1 (rdT σ (120 + k3) 6) fun v11 =>
  if 120 < (v11 + x6) then
    (some (Sum.inl (x6 + 1)))
  else
    (B1 (rdT σ (120 + k3) 6) fun v13 =>
    B1 (cL σ (120 + k3)) fun n15 =>
    B1 (t_isLawful σ (120 + k3) (v13 + x6)) fun v17 =>
    if v17 = 0 then
      (some (Sum.inl (x6 + 1)))
    else
      (B1 (rdT σ (120 + k3) 6) fun v19 =>
      some (Sum.inr (Sum.inr (v19 + x6)))))
noncomputable def c_shift_L5 (σ : St) (k3 : Nat) (x6 : Int32) : Option ((Int32) ⊕ ((Unit) ⊕ (Int32))) :=
  if 60 < x6 then
    (some (Sum.inr (Sum.inl ())))
  else
    (B1 (rdT σ (120 + k3) 6) fun v8 =>
    if (v8 - x6) < 60 then
      (c_shift_K10 σ k3 x6)
    else
      (B1 (rdT σ (120 + k3) 6) fun v21 =>
      B1 (cL σ (120 + k3)) fun n23 =>
      B1 (t_isLawful σ (120 + k3) (v21 - x6)) fun v25 =>
      if v25 = 0 then
        (c_shift_K10 σ k3 x6)
      else
        (B1 (rdT σ (120 + k3) 6) fun v27 =>
        some (Sum.inr (Sum.inr (v27 - x6))))))
noncomputable def c_shift (σ : St) (a1 : Int32) : Option (Int32) :=
  B1 (c_isTrailer σ a1) fun v2 =>
  if v2 = 0 then
    (some (-1))
  else
    (B1 (ixD σ 120 12 a1) fun k3 =>
    BR1 (lq1 (c_shift_L5 σ k3) 0) (fun u7 =>
    some (-9)) (fun r => some r))
noncomputable def c_cold_L25 (a2 : Int32) (k16 : Nat) (σ24 : St) (x26 : Int32) (x27 : Int32) (x28 : Int32) (x29 : Int32) (x30 : Int32) : Option ((Int32 × Int32 × Int32 × Int32 × Int32) ⊕ (Int32 × Int32 × Int32)) :=
  B1 (ixD σ24 100 6 a2) fun k34 =>
  B1 (cL σ24 (100 + k34)) fun n36 =>
  if (nI n36) ≤ x30 then
    (some (Sum.inr (x26, x27, x29)))
  else
    (B1 (ixD σ24 100 6 a2) fun k38 =>
    B1 (rdD σ24 (100 + k38) x30) fun v40 =>
    B1 ((if v40 = (-999) then
        (some 1)
      else
        (some 0)) : Option (Int32)) fun x43 =>
    B1 ((if x43 = 0 then
        (B1 (ixD σ24 100 6 a2) fun k46 =>
        B1 (rdD σ24 (100 + k46) x30) fun v48 =>
        B1 (rdT σ24 (120 + k16) 11) fun v50 =>
        if v48 ≤ v50 then
          (some 0)
        else
          (some 1))
      else
        (some 0)) : Option (Int32)) fun x45 =>
    B1 ((if x45 = 0 then
        (some 0)
      else
        (some 1)) : Option (Int32)) fun x53 =>
    B1 ((if x43 = 0 then
        (some 0)
      else
        (some 1)) : Option (Int32)) fun x55 =>
    B1 ((if x45 = 0 then
        (if x43 = 0 then
          (some 0)
        else
          (some (x28 + 1)))
      else
        (some (x28 + 1))) : Option (Int32)) fun x57 =>
    B1 (j_max x29 x57) fun v59 =>
    some (Sum.inl (x26 + x53, x27 + x55, x57, v59, x30 + 1)))
noncomputable def c_cold (σ : St) (a1 : Int32) (a2 : Int32) (a3 : Int32) : Option (Int32 × St) :=
  B1 (c_isTrailer σ a1) fun v2 =>
  if v2 = 0 then
    (some ((-1), σ))
  else
    (B1 (c_isRow a2) fun v4 =>
    if v4 = 0 then
      (some ((-1), σ))
    else
      (B1 (c_in a3 0 2) fun v6 =>
      if v6 = 0 then
        (some ((-1), σ))
      else
        (B1 (ixD σ 120 12 a1) fun k7 =>
        B1 (cL σ (120 + k7)) fun n9 =>
        if (icT n9) = 0 then
          (B2 (c_found σ 3) fun v66 σ67 =>
          some (v66, σ67))
        else
          (B1 (ixA 6 a2) fun k13 =>
          if (cL σ (100 + k13)).isSome = true then
            (B1 (ixD σ 120 12 a1) fun k16 =>
            B1 (ckC σ (120 + k16)) fun n18 =>
            B1 (lkT σ (120 + k16)) fun σ24 =>
            B3 (lq5 (c_cold_L25 a2 k16 σ24) 0 0 0 0 0) fun x31 x32 x33 =>
            B1 ((if a3 = 0 then
                (some x31)
              else
                (if a3 = 1 then
                  (some (x31 + x32))
                else
                  (some x33))) : Option (Int32)) fun x61 =>
            some (10 * x61, σ24))
          else
            (B2 (c_found σ 1) fun v63 σ64 =>
            some (v63, σ64))))))
noncomputable def c_entryAhead_L1 (σ : St) (a1 : Int32) (a3 : Int32) (a4 : Int32) (x2 : Int32) : Option ((Int32) ⊕ (Int32)) :=
  if x2 < 0 then
    (some (Sum.inr x2))
  else
    (B1 (rdA 60 σ 23 x2) fun v4 =>
    if v4 = a1 then
      (B1 (rdA 60 σ 24 x2) fun v6 =>
      if v6 = a3 then
        (some (Sum.inr x2))
      else
        (B1 (rdA 60 σ 24 x2) fun v8 =>
        if v8 = a4 then
          (some (Sum.inr x2))
        else
          (some (Sum.inl (x2 + (-1))))))
    else
      (some (Sum.inl (x2 + (-1)))))
noncomputable def c_entryAhead (σ : St) (a1 : Int32) (a2 : Int32) (a3 : Int32) (a4 : Int32) : Option (Int32) :=
  B1 (lq1 (c_entryAhead_L1 σ a1 a3 a4) (a2 - 1)) fun x3 =>
  B1 ((if 0 ≤ x3 then
      (some x3)
    else
      (some (-9))) : Option (Int32)) fun x11 =>
  some x11
noncomputable def c_theft (σ : St) (a1 : Int32) : Option (Int32 × St) :=
  B1 (c_isTrailer σ a1) fun v2 =>
  if v2 = 0 then
    (some ((-1), σ))
  else
    (B1 (c_entryAhead σ a1 (cI σ 22) 5 5) fun v4 =>
    if v4 = (-9) then
      (some ((-4), σ))
    else
      (B1 (c_entryAhead σ a1 v4 3 4) fun v6 =>
      B1 (rdA 60 σ 25 v6) fun v7 =>
      B1 (rdA 60 σ 25 v4) fun v9 =>
      B1 (rdA 60 σ 25 v6) fun v11 =>
      B2 (c_say σ v7 (v9 - v11)) fun v14 σ15 =>
      some (v14, σ15)))
noncomputable def c_handOf (σ : St) (a1 : Int32) : Option (Int32) :=
  B1 (rdA 60 σ 24 a1) fun v1 =>
  B1 ((if v1 = 0 then
      (B1 (rdA 60 σ 26 a1) fun v7 =>
      some (1 <<< (v7 &&& 31)))
    else
      (B1 (rdA 60 σ 26 a1) fun v5 =>
      some (1 <<< ((8 + v5) &&& 31)))) : Option (Int32)) fun x4 =>
  some x4
noncomputable def c_hands_L9 (σ : St) (a1 : Int32) (v4 : Int32) (v6 : Int32) (v8 : Int32) (x10 : Int32) (x11 : Int32) : Option ((Int32 × Int32) ⊕ (Int32)) :=
  if v4 ≤ x11 then
    (some (Sum.inr x10))
  else
    (B1 (rdA 60 σ 23 x11) fun v13 =>
    B1 ((if v13 = a1 then
        (B1 (rdA 60 σ 24 x11) fun v17 =>
        if 2 ≤ v17 then
          (some 0)
        else
          (if x11 = v8 then
            (B1 (c_handOf σ x11) fun v20 =>
            some v20)
          else
            (if x11 ≤ v6 then
              (some 0)
            else
              (B1 (c_handOf σ x11) fun v22 =>
              some v22))))
      else
        (some 0)) : Option (Int32)) fun x16 =>
    some (Sum.inl (x10 ||| x16, x11 + 1)))
noncomputable def c_hands (σ : St) (a1 : Int32) : Option (Int32 × St) :=
  B1 (c_isTrailer σ a1) fun v2 =>
  if v2 = 0 then
    (some ((-1), σ))
  else
    (B1 (c_entryAhead σ a1 (cI σ 22) 5 5) fun v4 =>
    if v4 = (-9) then
      (some ((-4), σ))
    else
      (B1 (c_entryAhead σ a1 v4 3 4) fun v6 =>
      B1 (c_entryAhead σ a1 v6 0 1) fun v8 =>
      B1 (lq2 (c_hands_L9 σ a1 v4 v6 v8) 0 v8) fun x12 =>
      B1 (j_bitCount x12) fun v24 =>
      B2 (c_say σ x12 v24) fun v26 σ27 =>
      some (v26, σ27)))
noncomputable def c_maySwap (σ : St) (a1 : Int32) : Option (Int32) :=
  B1 (c_isOnWay σ a1) fun v2 =>
  B1 ((if v2 = 0 then
      (B1 (rdA 6 σ 30 a1) fun v5 =>
      if v5 = (-9) then
        (some 0)
      else
        (some 1))
    else
      (some 0)) : Option (Int32)) fun x4 =>
  B1 (bZ x4) fun v8 =>
  some v8
noncomputable def c_homeAt (σ : St) (a1 : Int32) (a2 : Int32) (a3 : Int32) : Option (Int32 × St) :=
  B2 (c_comesTo σ a1 a2 a3) fun v2 σ3 =>
  some (v2, σ3)
noncomputable def c_laySwap_K31 (x4 : Int32) (v22 : Int32) (v25 : Int32) (σ26 : St) (v28 : Int32)  : Option (St × Int32) :=
  some (sI (sI σ26 41 x4) 42 v28, v22 + v25)
noncomputable def c_laySwap_L1 (a1 : Int32) (a2 : Int32) (a3 : Int32) (a4 : Int32) (σ2 : St) (x3 : Int32) (x4 : Int32) : Option ((St × Int32 × Int32) ⊕ (St)) :=
  if 8 ≤ x4 then
    (some (Sum.inr σ2))
  else
    (B1 (rdA 6 σ2 28 a1) fun v6 =>
    B2 (c_comesTo σ2 v6 (cI σ2 11) x4) fun v9 σ10 =>
    B1 (rdA 6 σ10 28 a2) fun v11 =>
    B2 (c_comesTo σ10 v11 (cI σ10 11) x4) fun v14 σ15 =>
    B2 ((if v9 = (-9) then
        (some (σ15, x3))
      else
        (if v14 = (-9) then
          (some (σ15, x3))
        else
          (B1 (j_max v9 v14) fun v20 =>
          B2 (c_homeAt σ15 x4 (v20 + 10) a3) fun v22 σ23 =>
          B2 (c_homeAt σ23 x4 (v20 + 10) a4) fun v25 σ26 =>
          B1 (j_max v22 v25) fun v28 =>
          B1 ((if v22 = (-9) then
              (some 0)
            else
              (if v25 = (-9) then
                (some 0)
              else
                (some 1))) : Option (Int32)) fun x30 =>
          if x30 = 0 then
            (some (σ26, x3))
          else
            (if (cI σ26 41) = (-9) then
              (c_laySwap_K31 x4 v22 v25 σ26 v28)
            else
              (if v28 < (cI σ26 42) then
                (c_laySwap_K31 x4 v22 v25 σ26 v28)
              else
                (if v28 = (cI σ26 42) then
                  (if x3 ≤ (v22 + v25) then
                    (some (σ26, x3))
                  else
                    (c_laySwap_K31 x4 v22 v25 σ26 v28))
                else
                  (some (σ26, x3)))))))) : Option (St × Int32)) fun σ17 x18 =>
    some (Sum.inl (σ17, x18, x4 + 1)))
noncomputable def c_laySwap (σ : St) (a1 : Int32) (a2 : Int32) (a3 : Int32) (a4 : Int32) : Option (Int32 × St) :=
  B1 (lq3 (c_laySwap_L1 a1 a2 a3 a4) (sI σ 41 (-9)) 0 0) fun σ5 =>
  B1 ((if (cI σ5 41) = (-9) then
      (some 0)
    else
      (some 1)) : Option (Int32)) fun x33 =>
  B1 (bZ x33) fun v35 =>
  some (v35, σ5)
noncomputable def c_swap (σ : St) (a1 : Int32) (a2 : Int32) (a3 : Int32) (a4 : Int32) : Option (Int32 × St) :=
  B1 (c_isTractor a1) fun v2 =>
  if v2 = 0 then
    (some ((-1), σ))
  else
    (B1 (c_isTractor a2) fun v4 =>
    if v4 = 0 then
      (some ((-1), σ))
    else
      (if a1 = a2 then
        (some ((-1), σ))
      else
        (B1 (c_isYard a3) fun v6 =>
        if v6 = 0 then
          (some ((-1), σ))
        else
          (B1 (c_isYard a4) fun v8 =>
          if v8 = 0 then
            (some ((-1), σ))
          else
            (B1 (c_maySwap σ a1) fun v10 =>
            if v10 = 0 then
              (some ((-4), σ))
            else
              (B1 (c_maySwap σ a2) fun v12 =>
              if v12 = 0 then
                (some ((-4), σ))
              else
                (B2 (c_laySwap σ a1 a2 a3 a4) fun v14 σ15 =>
                B2 ((if v14 = 0 then
                    (B2 (c_found σ15 1) fun v20 σ21 =>
                    some (σ21, v20))
                  else
                    (B2 (c_say σ15 (cI σ15 42) (cI σ15 41)) fun v23 σ24 =>
                    some (σ24, v23))) : Option (St × Int32)) fun σ17 x18 =>
                some (x18, σ17))))))))
noncomputable def c_tryPairs_L5 (rec : St → Int32 → Nat → Int32 → Option (St)) (a1 : Int32) (a2 : Nat) (a3 : Int32) (x4 : Int32) (σ6 : St) (x7 : Int32) : Option ((St × Int32) ⊕ (St)) :=
  if 6 ≤ x7 then
    (some (Sum.inr σ6))
  else
    (B1 ((if ((a1 >>> (x7 &&& 31)) &&& 1) = 1 then
        (B1 (rdD σ6 a2 x4) fun v11 =>
        B1 (rdD σ6 a2 x7) fun v13 =>
        B2 (c_laySwap σ6 x4 x7 v11 v13) fun v16 σ17 =>
        if v16 = 0 then
          (some σ17)
        else
          (B1 (wrA 6 σ17 44 x4 x7) fun σ18 =>
          B1 (wrA 6 σ18 44 x7 x4) fun σ20 =>
          B1 (j_max a3 (cI σ17 42)) fun v23 =>
          B1 (rec σ20 (a1 &&& (((1 <<< (x4 &&& 31)) ||| (1 <<< (x7 &&& 31))) ^^^ (-1))) a2 v23) fun σ24 =>
          some σ24))
      else
        (some σ6)) : Option (St)) fun σ10 =>
    some (Sum.inl (σ10, x7 + 1)))
noncomputable def c_tryPairs_L2 (a1 : Int32) (x3 : Int32) : Option ((Int32) ⊕ (Int32)) :=
  if ((a1 >>> (x3 &&& 31)) &&& 1) = 0 then
    (some (Sum.inl (x3 + 1)))
  else
    (some (Sum.inr x3))
noncomputable def c_tryPairs_K1 (rec : St → Int32 → Nat → Int32 → Option (St)) (σ : St) (a1 : Int32) (a2 : Nat) (a3 : Int32)  : Option (St) :=
  if a1 = 0 then
    (B1 (cpA 6 6 (sI σ 46 a3) 44 0 45 0 6) fun σ26 =>
    some σ26)
  else
    (B1 (lq1 (c_tryPairs_L2 a1) 0) fun x4 =>
    B1 (lq2 (c_tryPairs_L5 rec a1 a2 a3 x4) σ (x4 + 1)) fun σ8 =>
    some σ8)
noncomputable def c_tryPairs : Nat → St → Int32 → Nat → Int32 → Option (St)
  | 0, _, _, _, _ => none
  | dd + 1, σ, a1, a2, a3 =>
  if (cI σ 46) = (-9) then
    (c_tryPairs_K1 (c_tryPairs dd) σ a1 a2 a3)
  else
    (if a3 < (cI σ 46) then
      (c_tryPairs_K1 (c_tryPairs dd) σ a1 a2 a3)
    else
      (some σ))
noncomputable def c_pairs_L32  (σ33 : St) (x34 : Int32) : Option ((St × Int32) ⊕ (St)) :=
  if 6 ≤ x34 then
    (some (Sum.inr σ33))
  else
    (B1 (wrA 6 σ33 44 x34 (-9)) fun σ36 =>
    some (Sum.inl (σ36, x34 + 1)))
noncomputable def c_pairs_L16 (σ : St) (a1 : Int32) (a2 : Int32) (x17 : Int32) (x18 : Int32) (x19 : Int32) : Option ((Int32 × Int32 × Int32) ⊕ (Int32 × Int32)) :=
  if 6 ≤ x19 then
    (some (Sum.inr (x17, x18)))
  else
    (B1 (ixD σ 100 6 a2) fun k22 =>
    B1 (rdD σ (100 + k22) x19) fun v24 =>
    B1 (c_isYard v24) fun v27 =>
    B1 ((if ((a1 >>> (x19 &&& 31)) &&& 1) = 0 then
        (some 1)
      else
        (B1 (c_maySwap σ x19) fun v31 =>
        if v31 = 0 then
          (some 0)
        else
          (some 1))) : Option (Int32)) fun x29 =>
    some (Sum.inl (x17 &&& v27, x18 &&& x29, x19 + 1)))
noncomputable def c_pairs (σ : St) (a1 : Int32) (a2 : Int32) : Option (Int32 × St) :=
  B1 (c_in a1 0 63) fun v2 =>
  B1 ((if v2 = 0 then
      (some 0)
    else
      (B1 (j_bitCount a1) fun v6 =>
      some v6)) : Option (Int32)) fun x4 =>
  if x4 < 2 then
    (some ((-1), σ))
  else
    (if (x4 - x4 / 2 * 2) = 1 then
      (some ((-1), σ))
    else
      (B1 (c_isRow a2) fun v8 =>
      if v8 = 0 then
        (some ((-1), σ))
      else
        (B1 (ixA 6 a2) fun k9 =>
        if (cL σ (100 + k9)).isSome = true then
          (B1 (ixD σ 100 6 a2) fun k12 =>
          B1 (cL σ (100 + k12)) fun n14 =>
          if (nI n14) = 6 then
            (B2 (lq3 (c_pairs_L16 σ a1 a2) 1 1 0) fun x20 x21 =>
            if x20 = 0 then
              (B2 (c_found σ 3) fun v48 σ49 =>
              some (v48, σ49))
            else
              (if x21 = 0 then
                (some ((-4), σ))
              else
                (B1 (lq2 (c_pairs_L32) (sI σ 46 (-9)) 0) fun σ35 =>
                B1 (ixD σ35 100 6 a2) fun k38 =>
                B1 (c_tryPairs 4 σ35 a1 (100 + k38) 0) fun σ41 =>
                if (cI σ41 46) = (-9) then
                  (B2 (c_found σ41 1) fun v45 σ46 =>
                  some (v45, σ46))
                else
                  (B1 (cpA 6 6 σ41 45 0 43 0 6) fun σ42 =>
                  some (cI σ42 46, σ42)))))
          else
            (B2 (c_found σ 5) fun v51 σ52 =>
            some (v51, σ52)))
        else
          (B2 (c_found σ 1) fun v54 σ55 =>
          some (v54, σ55)))))
noncomputable def c_partner (σ : St) (a1 : Int32) : Option (Int32) :=
  B1 (c_isTractor a1) fun v2 =>
  B1 ((if v2 = 0 then
      (some (-1))
    else
      (B1 (rdA 6 σ 43 a1) fun v5 =>
      some v5)) : Option (Int32)) fun x4 =>
  some x4
noncomputable def c_late (σ : St) (a1 : Int32) (a2 : Int32) (a3 : Int32) (a4 : Int32) (a5 : Int32) (a6 : Int32) : Option (Int32 × St) :=
  B1 (c_isTractor a1) fun v2 =>
  if v2 = 0 then
    (some ((-1), σ))
  else
    (B1 (c_isTractor a2) fun v4 =>
    if v4 = 0 then
      (some ((-1), σ))
    else
      (if a1 = a2 then
        (some ((-1), σ))
      else
        (B1 (c_isYard a3) fun v6 =>
        if v6 = 0 then
          (some ((-1), σ))
        else
          (B1 (c_isYard a4) fun v8 =>
          if v8 = 0 then
            (some ((-1), σ))
          else
            (B1 (c_in a5 0 2000) fun v10 =>
            if v10 = 0 then
              (some ((-1), σ))
            else
              (B1 (c_isMinute a6) fun v12 =>
              if v12 = 0 then
                (some ((-1), σ))
              else
                (B1 (c_maySwap σ a1) fun v14 =>
                if v14 = 0 then
                  (some ((-4), σ))
                else
                  (B1 (c_maySwap σ a2) fun v16 =>
                  if v16 = 0 then
                    (some ((-4), σ))
                  else
                    (B1 (rdA 6 σ 28 a1) fun v17 =>
                    B2 (c_comesTo σ v17 (cI σ 11) a4) fun v20 σ21 =>
                    B1 (rdA 6 σ21 28 a2) fun v22 =>
                    B2 (c_comesTo σ21 v22 (cI σ21 11) a4) fun v25 σ26 =>
                    if v20 = (-9) then
                      (B2 (c_found σ26 1) fun v28 σ29 =>
                      some (v28, σ29))
                    else
                      (if v25 = (-9) then
                        (B2 (c_found σ26 1) fun v62 σ63 =>
                        some (v62, σ63))
                      else
                        (B1 (j_max (v20 + a5) v25) fun v31 =>
                        B2 (c_homeAt σ26 a4 (v31 + 10) a3) fun v33 σ34 =>
                        if v33 = (-9) then
                          (B2 (c_found σ34 1) fun v59 σ60 =>
                          some (v59, σ60))
                        else
                          (B1 (rdA 6 σ34 30 a1) fun v35 =>
                          B1 (ixD σ34 120 12 v35) fun k37 =>
                          B1 (rdT σ34 (120 + k37) 1) fun v39 =>
                          B1 (rdA 6 σ34 30 a2) fun v41 =>
                          B1 (ixD σ34 120 12 v41) fun k43 =>
                          B1 (rdT σ34 (120 + k43) 1) fun v45 =>
                          B1 (j_max 0 (v33 - a6)) fun v48 =>
                          B2 ((if 0 < (lg_cmp ((v48.toInt64 * v45.toInt64) / 1000) (((v39 + v45) / 10).toInt64)) then
                              (B2 (c_say σ34 ((((v39 + v45) / 10).toInt64).toInt32) 0) fun v53 σ54 =>
                              some (σ54, v53))
                            else
                              (B2 (c_say σ34 (((v48.toInt64 * v45.toInt64) / 1000).toInt32) 1) fun v56 σ57 =>
                              some (σ57, v56))) : Option (St × Int32)) fun σ50 x51 =>
                          some (x51, σ50)))))))))))))
noncomputable def c_lastSeen (σ : St) (a1 : Int32) : Option (Int32) :=
  B1 (c_entryAhead σ a1 (cI σ 22) 2 2) fun v2 =>
  B1 (c_entryAhead σ a1 v2 0 1) fun v4 =>
  some v4
noncomputable def c_canBeOf_L9 (σ8 : St) (x10 : Int32) (x11 : Int32) : Option ((Int32 × Int32) ⊕ (Int32)) :=
  if 8 ≤ x11 then
    (some (Sum.inr x10))
  else
    (B1 (rdA 8 σ8 16 x11) fun v13 =>
    B1 ((if v13 = (-9) then
        (some 0)
      else
        (B1 (rdA 8 σ8 16 x11) fun v17 =>
        if (cI σ8 11) < v17 then
          (some 0)
        else
          (some (1 <<< (x11 &&& 31))))) : Option (Int32)) fun x16 =>
    some (Sum.inl (x10 ||| x16, x11 + 1)))
noncomputable def c_canBeOf (σ : St) (a1 : Int32) : Option (Int32 × St) :=
  B1 (c_lastSeen σ a1) fun v2 =>
  B1 (rdA 60 σ 27 v2) fun v3 =>
  B1 (rdA 60 σ 25 v2) fun v5 =>
  B1 (c_lead σ v3 v5 0) fun σ8 =>
  B1 (lq2 (c_canBeOf_L9 σ8) 0 0) fun x12 =>
  some (x12, σ8)
noncomputable def c_canBe (σ : St) (a1 : Int32) : Option (Int32 × St) :=
  B1 (c_isTrailer σ a1) fun v2 =>
  B2 ((if v2 = 0 then
      (some (σ, (-1)))
    else
      (B1 (ixD σ 120 12 a1) fun k6 =>
      B1 (rdT σ (120 + k6) 4) fun v8 =>
      if v8 = 0 then
        (some (σ, (-4)))
      else
        (B2 (c_canBeOf σ a1) fun v11 σ12 =>
        some (σ12, v11)))) : Option (St × Int32)) fun σ4 x5 =>
  some (x5, σ4)
noncomputable def c_tryLooks_L1 (rec : St → Int32 → Int32 → Int32 → Int32 → Nat → Int32 → Option (St)) (a1 : Int32) (a2 : Int32) (a3 : Int32) (a4 : Int32) (a5 : Nat) (a6 : Int32) (σ2 : St) (x3 : Int32) : Option ((St × Int32) ⊕ (St)) :=
  if 8 ≤ x3 then
    (some (Sum.inr σ2))
  else
    (B1 ((if ((a1 >>> (x3 &&& 31)) &&& 1) = 1 then
        (B2 (c_comesTo σ2 a3 a4 x3) fun v8 σ9 =>
        B1 (wrA 8 σ9 49 a2 x3) fun σ10 =>
        B1 (rdD σ10 a5 x3) fun v12 =>
        B1 (rec σ10 (a1 &&& ((1 <<< (x3 &&& 31)) ^^^ (-1))) (a2 + 1) x3 v8 a5 (a6 + (v12 * (v8 - (cI σ10 11))))) fun σ14 =>
        some σ14)
      else
        (some σ2)) : Option (St)) fun σ6 =>
    some (Sum.inl (σ6, x3 + 1)))
noncomputable def c_tryLooks : Nat → St → Int32 → Int32 → Int32 → Int32 → Nat → Int32 → Option (St)
  | 0, _, _, _, _, _, _, _ => none
  | dd + 1, σ, a1, a2, a3, a4, a5, a6 =>
  if a1 = 0 then
    (B1 ((if (cI σ 50) = 0 then
        (B1 (cpA 8 8 (sI (sI σ 50 1) 51 a6) 49 0 48 0 8) fun σ18 =>
        some σ18)
      else
        (if (cI σ 51) ≤ a6 then
          (some σ)
        else
          (B1 (cpA 8 8 (sI (sI σ 50 1) 51 a6) 49 0 48 0 8) fun σ20 =>
          some σ20))) : Option (St)) fun σ17 =>
    some σ17)
  else
    (B1 (lq2 (c_tryLooks_L1 (c_tryLooks dd) a1 a2 a3 a4 a5 a6) σ 0) fun σ4 =>
    some σ4)
noncomputable def c_look_L43 (x22 : Int32) (v37 : Int32) (σ42 : St) (x44 : Int32) : Option ((Int32) ⊕ ((Unit) ⊕ (Int32 × St))) :=
  if 8 ≤ x44 then
    (some (Sum.inr (Sum.inl ())))
  else
    (if (((x22 &&& v37) >>> (x44 &&& 31)) &&& 1) = 1 then
      (B1 (rdA 8 σ42 16 x44) fun v46 =>
      if v46 = (-9) then
        (B2 (c_found σ42 1) fun v49 σ50 =>
        some (Sum.inr (Sum.inr (v49, σ50))))
      else
        (some (Sum.inl (x44 + 1))))
    else
      (some (Sum.inl (x44 + 1))))
noncomputable def c_look_L18 (σ : St) (a3 : Int32) (x19 : Int32) (x20 : Int32) (x21 : Int32) : Option ((Int32 × Int32 × Int32) ⊕ (Int32 × Int32)) :=
  if 8 ≤ x21 then
    (some (Sum.inr (x19, x20)))
  else
    (B1 (ixD σ 100 6 a3) fun k24 =>
    B1 (rdD σ (100 + k24) x21) fun v26 =>
    B1 (c_in v26 0 100) fun v29 =>
    B1 (ixD σ 100 6 a3) fun k30 =>
    B1 (rdD σ (100 + k30) x21) fun v32 =>
    B1 ((if v32 ≤ 0 then
        (some 0)
      else
        (some (1 <<< (x21 &&& 31)))) : Option (Int32)) fun x35 =>
    some (Sum.inl (x19 ||| x35, x20 &&& v29, x21 + 1)))
noncomputable def c_look (σ : St) (a1 : Int32) (a2 : Int32) (a3 : Int32) : Option (Int32 × St) :=
  B1 (c_isTrailer σ a1) fun v2 =>
  if v2 = 0 then
    (some ((-1), σ))
  else
    (B1 (c_isYard a2) fun v4 =>
    if v4 = 0 then
      (some ((-1), σ))
    else
      (B1 (c_isRow a3) fun v6 =>
      if v6 = 0 then
        (some ((-1), σ))
      else
        (B1 (ixD σ 120 12 a1) fun k7 =>
        B1 (rdT σ (120 + k7) 4) fun v9 =>
        if v9 = 0 then
          (some ((-4), σ))
        else
          (B1 (ixA 6 a3) fun k11 =>
          if (cL σ (100 + k11)).isSome = true then
            (B1 (ixD σ 100 6 a3) fun k14 =>
            B1 (cL σ (100 + k14)) fun n16 =>
            if (nI n16) = 8 then
              (B2 (lq3 (c_look_L18 σ a3) 0 1 0) fun x22 x23 =>
              if x23 = 0 then
                (B2 (c_found σ 3) fun v61 σ62 =>
                some (v61, σ62))
              else
                (B2 (c_canBeOf σ a1) fun v37 σ38 =>
                B1 (j_bitCount (x22 &&& v37)) fun v40 =>
                if v40 ≤ 6 then
                  (B1 (c_lead σ38 a2 (cI σ38 11) 0) fun σ42 =>
                  BR1 (lq1 (c_look_L43 x22 v37 σ42) 0) (fun u45 =>
                  B1 (ixD (sI σ42 50 0) 100 6 a3) fun k51 =>
                  B1 (c_tryLooks 7 (sI σ42 50 0) (x22 &&& v37) 0 a2 (cI (sI σ42 50 0) 11) (100 + k51) 0) fun σ54 =>
                  B1 (j_bitCount (x22 &&& v37)) fun v56 =>
                  B2 (c_say (sI σ54 47 v56) (cI (sI σ54 47 v56) 51) (cI (sI σ54 47 v56) 47)) fun v58 σ59 =>
                  some (v58, σ59)) (fun r => some r))
                else
                  (some ((-2), σ38))))
            else
              (B2 (c_found σ 5) fun v64 σ65 =>
              some (v64, σ65)))
          else
            (B2 (c_found σ 1) fun v67 σ68 =>
            some (v67, σ68))))))
noncomputable def c_looked (σ : St) (a1 : Int32) : Option (Int32) :=
  B1 (c_in a1 0 ((cI σ 47) - 1)) fun v2 =>
  B1 ((if v2 = 0 then
      (some (-9))
    else
      (B1 (rdA 8 σ 48 a1) fun v5 =>
      some v5)) : Option (Int32)) fun x4 =>
  some x4
noncomputable def c_cheapestWay_L21  (σ22 : St) (x23 : Int32) (x24 : Int32) : Option ((St × Int32 × Int32) ⊕ (St × Int32)) :=
  if 64 ≤ x24 then
    (some (Sum.inr (σ22, x23)))
  else
    (B1 (rdA 64 σ22 54 x24) fun v27 =>
    B2 ((if v27 = (-9) then
        (some (σ22, x23))
      else
        (B1 (rdA 16 σ22 56 (x24 / 8)) fun v32 =>
        if v32 = 1000000000 then
          (some (σ22, x23))
        else
          (B1 (rdA 16 σ22 56 (x24 / 8)) fun v34 =>
          B1 (rdA 64 σ22 54 x24) fun v36 =>
          B1 (rdA 16 σ22 56 (8 + (x24 - x24 / 8 * 8))) fun v38 =>
          if v38 ≤ (v34 + v36) then
            (some (σ22, x23))
          else
            (B1 (rdA 16 σ22 56 (x24 / 8)) fun v40 =>
            B1 (rdA 64 σ22 54 x24) fun v42 =>
            B1 (wrA 16 σ22 56 (8 + (x24 - x24 / 8 * 8)) (v40 + v42)) fun σ44 =>
            B1 (wrA 16 σ44 57 (8 + (x24 - x24 / 8 * 8)) (x24 / 8)) fun σ46 =>
            some (σ46, 1))))) : Option (St × Int32)) fun σ30 x31 =>
    B1 (rdA 64 σ30 55 x24) fun v48 =>
    B2 ((if v48 ≤ 0 then
        (some (σ30, x31))
      else
        (B1 (rdA 16 σ30 56 (8 + (x24 - x24 / 8 * 8))) fun v53 =>
        if v53 = 1000000000 then
          (some (σ30, x31))
        else
          (B1 (rdA 16 σ30 56 (8 + (x24 - x24 / 8 * 8))) fun v55 =>
          B1 (rdA 64 σ30 54 x24) fun v57 =>
          B1 (rdA 16 σ30 56 (x24 / 8)) fun v59 =>
          if v59 ≤ (v55 - v57) then
            (some (σ30, x31))
          else
            (B1 (rdA 16 σ30 56 (8 + (x24 - x24 / 8 * 8))) fun v61 =>
            B1 (rdA 64 σ30 54 x24) fun v63 =>
            B1 (wrA 16 σ30 56 (x24 / 8) (v61 - v63)) fun σ65 =>
            B1 (wrA 16 σ65 57 (x24 / 8) (8 + (x24 - x24 / 8 * 8))) fun σ67 =>
            some (σ67, 1))))) : Option (St × Int32)) fun σ51 x52 =>
    some (Sum.inl (σ51, x52, x24 + 1)))
noncomputable def c_cheapestWay_L69 (σ20 : St) (x70 : Int32) (x71 : Int32) : Option ((Int32 × Int32) ⊕ (Int32)) :=
  if 8 ≤ x71 then
    (some (Sum.inr x70))
  else
    (B1 (rdA 8 σ20 53 x71) fun v73 =>
    B1 ((if v73 ≤ 0 then
        (some 0)
      else
        (B1 (rdA 16 σ20 56 (8 + x71)) fun v77 =>
        if v77 = 1000000000 then
          (some 0)
        else
          (some 1))) : Option (Int32)) fun x76 =>
    B1 ((if x76 = 0 then
        (some x70)
      else
        (if x70 = (-9) then
          (some x71)
        else
          (B1 (rdA 16 σ20 56 (8 + x71)) fun v81 =>
          B1 (rdA 16 σ20 56 (8 + x70)) fun v83 =>
          if v83 ≤ v81 then
            (some x70)
          else
            (some x71)))) : Option (Int32)) fun x80 =>
    some (Sum.inl (x80, x71 + 1)))
noncomputable def c_cheapestWay_L17  (σ18 : St) (x19 : Int32) : Option ((St × Int32) ⊕ (St)) :=
  if x19 = 0 then
    (some (Sum.inr σ18))
  else
    (B2 (lq3 (c_cheapestWay_L21) σ18 0 0) fun σ25 x26 =>
    some (Sum.inl (σ25, x26)))
noncomputable def c_cheapestWay_L1  (σ2 : St) (x3 : Int32) : Option ((St × Int32) ⊕ (St)) :=
  if 8 ≤ x3 then
    (some (Sum.inr σ2))
  else
    (B1 (rdA 8 σ2 52 x3) fun v5 =>
    B1 ((if v5 ≤ 0 then
        (some 1000000000)
      else
        (some 0)) : Option (Int32)) fun x8 =>
    B1 (wrA 16 σ2 56 x3 x8) fun σ9 =>
    B1 (wrA 16 σ9 56 (8 + x3) 1000000000) fun σ11 =>
    B1 (wrA 16 σ11 57 x3 (-9)) fun σ13 =>
    B1 (wrA 16 σ13 57 (8 + x3) (-9)) fun σ15 =>
    some (Sum.inl (σ15, x3 + 1)))
noncomputable def c_cheapestWay (σ : St)  : Option (Int32 × St) :=
  B1 (lq2 (c_cheapestWay_L1) σ 0) fun σ4 =>
  B1 (lq2 (c_cheapestWay_L17) σ4 1) fun σ20 =>
  B1 (lq2 (c_cheapestWay_L69 σ20) (-9) 0) fun x72 =>
  some (x72, σ20)
noncomputable def c_bringOne_L5  (σ6 : St) (x7 : Int32) : Option ((St × Int32) ⊕ (St × Int32)) :=
  B1 (rdA 16 σ6 57 x7) fun v10 =>
  if v10 = (-9) then
    (some (Sum.inr (σ6, x7)))
  else
    (B1 (rdA 16 σ6 57 x7) fun v12 =>
    B1 ((if x7 < 8 then
        (B1 (rdA 64 σ6 55 (((8 * x7) + v12) - 8)) fun v16 =>
        B1 (wrA 64 σ6 55 (((8 * x7) + v12) - 8) (v16 - 1)) fun σ18 =>
        some σ18)
      else
        (B1 (rdA 64 σ6 55 (((8 * v12) + x7) - 8)) fun v20 =>
        B1 (wrA 64 σ6 55 (((8 * v12) + x7) - 8) (v20 + 1)) fun σ22 =>
        some σ22)) : Option (St)) fun σ15 =>
    some (Sum.inl (σ15, v12)))
noncomputable def c_bringOne (σ : St) (a1 : Int32) : Option (St) :=
  B1 (rdA 8 σ 53 a1) fun v1 =>
  B1 (wrA 8 σ 53 a1 (v1 - 1)) fun σ3 =>
  B2 (lq2 (c_bringOne_L5) σ3 (8 + a1)) fun σ8 x9 =>
  B1 (rdA 8 σ8 52 x9) fun v24 =>
  B1 (wrA 8 σ8 52 x9 (v24 - 1)) fun σ26 =>
  some σ26
noncomputable def c_pool_L75 (x71 : Int32) (σ76 : St) (x77 : Int32) : Option ((St × Int32) ⊕ (St)) :=
  if 8 ≤ x77 then
    (some (Sum.inr σ76))
  else
    (B1 ((if x71 = x77 then
        (some (-9))
      else
        (B1 (rdA 8 σ76 16 x77) fun v81 =>
        if v81 = (-9) then
          (some (-9))
        else
          (B1 (rdA 8 σ76 16 x77) fun v83 =>
          some (v83 - (cI σ76 11))))) : Option (Int32)) fun x80 =>
    B1 (wrA 64 σ76 54 ((8 * x71) + x77) x80) fun σ85 =>
    B1 (wrA 64 σ85 55 ((8 * x71) + x77) 0) fun σ87 =>
    some (Sum.inl (σ87, x77 + 1)))
noncomputable def c_pool_L105 (σ96 : St) (x106 : Int32) (x107 : Int32) : Option ((Int32 × Int32) ⊕ (Int32)) :=
  if 8 ≤ x107 then
    (some (Sum.inr x106))
  else
    (B1 (rdA 8 σ96 53 x107) fun v109 =>
    some (Sum.inl (x106 + v109, x107 + 1)))
noncomputable def c_pool_L92  (σ93 : St) (x94 : Int32) (x95 : Int32) : Option ((St × Int32 × Int32) ⊕ (St × Int32)) :=
  if x95 = (-9) then
    (some (Sum.inr (σ93, x94)))
  else
    (B1 (rdA 16 σ93 56 (8 + x95)) fun v98 =>
    B1 (c_bringOne σ93 x95) fun σ101 =>
    B2 (c_cheapestWay σ101) fun v103 σ104 =>
    some (Sum.inl (σ104, x94 + v98, v103)))
noncomputable def c_pool_L69  (σ70 : St) (x71 : Int32) : Option ((St × Int32) ⊕ (St)) :=
  if 8 ≤ x71 then
    (some (Sum.inr σ70))
  else
    (B1 (c_lead σ70 x71 (cI σ70 11) 0) fun σ74 =>
    B1 (lq2 (c_pool_L75 x71) σ74 0) fun σ78 =>
    some (Sum.inl (σ78, x71 + 1)))
noncomputable def c_pool_L25 (a1 : Int32) (a2 : Int32) (σ26 : St) (x27 : Int32) (x28 : Int32) : Option ((St × Int32 × Int32) ⊕ (St × Int32)) :=
  if 8 ≤ x28 then
    (some (Sum.inr (σ26, x27)))
  else
    (B1 (ixD σ26 100 6 a1) fun k31 =>
    B1 (rdD σ26 (100 + k31) x28) fun v33 =>
    B1 (c_in v33 0 30) fun v36 =>
    B1 ((if v36 = 0 then
        (some 0)
      else
        (B1 (ixD σ26 100 6 a2) fun k39 =>
        B1 (rdD σ26 (100 + k39) x28) fun v41 =>
        B1 (c_in v41 0 30) fun v44 =>
        if v44 = 0 then
          (some 0)
        else
          (some 1))) : Option (Int32)) fun x38 =>
    B1 (ixD σ26 100 6 a1) fun k45 =>
    B1 (rdD σ26 (100 + k45) x28) fun v47 =>
    B1 (ixD σ26 100 6 a2) fun k49 =>
    B1 (rdD σ26 (100 + k49) x28) fun v51 =>
    B1 (j_max 0 (v47 - v51)) fun v54 =>
    B1 (wrA 8 σ26 52 x28 v54) fun σ55 =>
    B1 (ixD σ55 100 6 a2) fun k57 =>
    B1 (rdD σ55 (100 + k57) x28) fun v59 =>
    B1 (ixD σ55 100 6 a1) fun k61 =>
    B1 (rdD σ55 (100 + k61) x28) fun v63 =>
    B1 (j_max 0 (v59 - v63)) fun v66 =>
    B1 (wrA 8 σ55 53 x28 v66) fun σ67 =>
    some (Sum.inl (σ67, x27 &&& x38, x28 + 1)))
noncomputable def c_pool (σ : St) (a1 : Int32) (a2 : Int32) : Option (Int32 × St) :=
  B1 (c_isRow a1) fun v2 =>
  if v2 = 0 then
    (some ((-1), σ))
  else
    (B1 (c_isRow a2) fun v4 =>
    if v4 = 0 then
      (some ((-1), σ))
    else
      (B1 (ixA 6 a1) fun k5 =>
      if (cL σ (100 + k5)).isSome = true then
        (B1 (ixA 6 a2) fun k11 =>
        if (cL σ (100 + k11)).isSome = true then
          (B1 (ixD σ 100 6 a1) fun k14 =>
          B1 (cL σ (100 + k14)) fun n16 =>
          if (nI n16) = 8 then
            (B1 (ixD σ 100 6 a2) fun k21 =>
            B1 (cL σ (100 + k21)) fun n23 =>
            if (nI n23) = 8 then
              (B2 (lq3 (c_pool_L25 a1 a2) σ 1 0) fun σ29 x30 =>
              if x30 = 0 then
                (B2 (c_found σ29 3) fun v115 σ116 =>
                some (v115, σ116))
              else
                (B1 (lq2 (c_pool_L69) σ29 0) fun σ72 =>
                B2 (c_cheapestWay σ72) fun v90 σ91 =>
                B2 (lq3 (c_pool_L92) σ91 0 v90) fun σ96 x97 =>
                B1 (lq2 (c_pool_L105 σ96) 0 0) fun x108 =>
                B2 (c_say σ96 x97 x108) fun v112 σ113 =>
                some (v112, σ113)))
            else
              (B2 (c_found σ 5) fun v118 σ119 =>
              some (v118, σ119)))
          else
            (B2 (c_found σ 5) fun v19 σ20 =>
            some (v19, σ20)))
        else
          (B2 (c_found σ 1) fun v121 σ122 =>
          some (v121, σ122)))
      else
        (B2 (c_found σ 1) fun v9 σ10 =>
        some (v9, σ10))))
noncomputable def c_rentCost (σ : St) (a1 : Int32) (a2 : Int32) (a3 : Int32) (a4 : Int32) (a5 : Int32) (a6 : Int32) (a7 : Int32) : Option (Int32) :=
  B1 (j_max 0 (a3 - a2)) fun v2 =>
  B1 (j_max 0 (a4 - a3)) fun v4 =>
  B1 (rdA 410 σ 60 ((10 * (a1 + 1)) + a3)) fun v5 =>
  some ((((a5 * a3) + (a6 * v2)) + (a7 * v4)) + v5)
noncomputable def c_rent_L42 (a2 : Int32) (a3 : Int32) (a4 : Int32) (a5 : Int32) (k11 : Nat) (x36 : Int32) (σ39 : St) (x40 : Int32) (x43 : Int32) (x44 : Int32) : Option ((Int32 × Int32) ⊕ (Int32)) :=
  if 10 ≤ x44 then
    (some (Sum.inr x43))
  else
    (B1 (rdD σ39 (100 + k11) x36) fun v46 =>
    B1 (c_rentCost σ39 x36 x40 x44 (v46 - a2) a3 a4 a5) fun v49 =>
    B1 ((if x43 = (-9) then
        (some v49)
      else
        (if x43 ≤ v49 then
          (some x43)
        else
          (some v49))) : Option (Int32)) fun x51 =>
    some (Sum.inl (x51, x44 + 1)))
noncomputable def c_rent_L38 (a2 : Int32) (a3 : Int32) (a4 : Int32) (a5 : Int32) (k11 : Nat) (x36 : Int32) (σ39 : St) (x40 : Int32) : Option ((St × Int32) ⊕ (St)) :=
  if 10 ≤ x40 then
    (some (Sum.inr σ39))
  else
    (B1 (lq2 (c_rent_L42 a2 a3 a4 a5 k11 x36 σ39 x40) (-9) 0) fun x45 =>
    B1 (wrA 410 σ39 60 ((10 * x36) + x40) x45) fun σ52 =>
    some (Sum.inl (σ52, x40 + 1)))
noncomputable def c_rent_L59 (a2 : Int32) (a3 : Int32) (a4 : Int32) (a5 : Int32) (k11 : Nat) (σ55 : St) (x56 : Int32) (x57 : Int32) (x60 : Int32) : Option ((Int32) ⊕ (Int32)) :=
  B1 (rdD σ55 (100 + k11) x57) fun v62 =>
  B1 (c_rentCost σ55 x57 x56 x60 (v62 - a2) a3 a4 a5) fun v65 =>
  B1 (rdA 410 σ55 60 ((10 * x57) + x56)) fun v66 =>
  if v65 = v66 then
    (some (Sum.inr x60))
  else
    (some (Sum.inl (x60 + 1)))
noncomputable def c_rent_L54 (a2 : Int32) (a3 : Int32) (a4 : Int32) (a5 : Int32) (k11 : Nat) (n26 : Nat) (σ55 : St) (x56 : Int32) (x57 : Int32) : Option ((St × Int32 × Int32) ⊕ (St)) :=
  if (nI n26) ≤ x57 then
    (some (Sum.inr σ55))
  else
    (B1 (lq1 (c_rent_L59 a2 a3 a4 a5 k11 σ55 x56 x57) 0) fun x61 =>
    B1 (wrA 40 σ55 59 x57 x61) fun σ68 =>
    some (Sum.inl (σ68, x61, x57 + 1)))
noncomputable def c_rent_L34 (a2 : Int32) (a3 : Int32) (a4 : Int32) (a5 : Int32) (k11 : Nat) (σ35 : St) (x36 : Int32) : Option ((St × Int32) ⊕ (St)) :=
  if x36 < 0 then
    (some (Sum.inr σ35))
  else
    (B1 (lq2 (c_rent_L38 a2 a3 a4 a5 k11 x36) σ35 0) fun σ41 =>
    some (Sum.inl (σ41, x36 + (-1))))
noncomputable def c_rent_L28 (n26 : Nat) (σ29 : St) (x30 : Int32) : Option ((St × Int32) ⊕ (St)) :=
  if 10 ≤ x30 then
    (some (Sum.inr σ29))
  else
    (B1 (wrA 410 σ29 60 ((10 * (nI n26)) + x30) 0) fun σ32 =>
    some (Sum.inl (σ32, x30 + 1)))
noncomputable def c_rent_L16 (σ : St) (k11 : Nat) (x17 : Int32) (x18 : Int32) : Option ((Int32 × Int32) ⊕ (Int32)) :=
  B1 (cL σ (100 + k11)) fun n20 =>
  if (nI n20) ≤ x18 then
    (some (Sum.inr x17))
  else
    (B1 (rdD σ (100 + k11) x18) fun v22 =>
    B1 (c_in v22 0 9) fun v25 =>
    some (Sum.inl (x17 &&& v25, x18 + 1)))
noncomputable def c_rent (σ : St) (a1 : Int32) (a2 : Int32) (a3 : Int32) (a4 : Int32) (a5 : Int32) : Option (Int32 × St) :=
  B1 (c_isRow a1) fun v2 =>
  if v2 = 0 then
    (some ((-1), σ))
  else
    (B1 (c_in a2 0 9) fun v4 =>
    if v4 = 0 then
      (some ((-1), σ))
    else
      (B1 (c_in a3 0 1000) fun v6 =>
      if v6 = 0 then
        (some ((-1), σ))
      else
        (B1 (c_in a4 0 1000) fun v8 =>
        if v8 = 0 then
          (some ((-1), σ))
        else
          (B1 (c_in a5 0 1000) fun v10 =>
          if v10 = 0 then
            (some ((-1), σ))
          else
            (B1 (ixA 6 a1) fun k11 =>
            if (cL σ (100 + k11)).isSome = true then
              (B1 (cL σ (100 + k11)) fun n14 =>
              if (nI n14) = 0 then
                (B2 (c_found σ 5) fun v76 σ77 =>
                some (v76, σ77))
              else
                (B1 (lq2 (c_rent_L16 σ k11) 1 0) fun x19 =>
                if x19 = 0 then
                  (B2 (c_found σ 3) fun v73 σ74 =>
                  some (v73, σ74))
                else
                  (B1 (cL σ (100 + k11)) fun n26 =>
                  B1 (lq2 (c_rent_L28 n26) σ 0) fun σ31 =>
                  B1 (lq2 (c_rent_L34 a2 a3 a4 a5 k11) σ31 ((nI n26) - 1)) fun σ37 =>
                  B1 (lq3 (c_rent_L54 a2 a3 a4 a5 k11 n26) (sI σ37 58 (nI n26)) 0 0) fun σ58 =>
                  B1 (rdA 410 σ58 60 0) fun v70 =>
                  some (v70, σ58))))
            else
              (B2 (c_found σ 1) fun v79 σ80 =>
              some (v79, σ80)))))))
noncomputable def c_rented (σ : St) (a1 : Int32) : Option (Int32) :=
  B1 (c_in a1 0 ((cI σ 58) - 1)) fun v2 =>
  B1 ((if v2 = 0 then
      (some (-9))
    else
      (B1 (rdA 40 σ 59 a1) fun v5 =>
      some v5)) : Option (Int32)) fun x4 =>
  some x4
noncomputable def c_counted_L1 (σ : St) (x2 : Int32) (x3 : Int32) : Option ((Int32 × Int32) ⊕ (Int32)) :=
  if (cI σ 19) ≤ x3 then
    (some (Sum.inr x2))
  else
    (B1 (ixD σ 120 12 x3) fun k5 =>
    B1 (rdT σ (120 + k5) 4) fun v7 =>
    B1 ((if v7 = 0 then
        (some 0)
      else
        (some 1)) : Option (Int32)) fun x10 =>
    some (Sum.inl (x2 + x10, x3 + 1)))
noncomputable def c_counted_L11 (σ : St) (x12 : Int32) (x13 : Int32) : Option ((Int32 × Int32) ⊕ (Int32)) :=
  if 64 ≤ x13 then
    (some (Sum.inr x12))
  else
    (B1 (rdA 64 σ 12 x13) fun v15 =>
    B1 ((if v15 ≤ 0 then
        (some 0)
      else
        (some 1)) : Option (Int32)) fun x18 =>
    some (Sum.inl (x12 + x18, x13 + 1)))
noncomputable def c_counted_L19 (σ : St) (x20 : Int32) (x21 : Int32) : Option ((Int32 × Int32) ⊕ (Int32)) :=
  if 6 ≤ x21 then
    (some (Sum.inr x20))
  else
    (B1 (ixA 6 x21) fun k23 =>
    B1 ((if (cL σ (100 + k23)).isSome = true then
        (some 1)
      else
        (some 0)) : Option (Int32)) fun x27 =>
    some (Sum.inl (x20 + x27, x21 + 1)))
noncomputable def c_counted_L28 (σ : St) (x29 : Int32) (x30 : Int32) : Option ((Int32 × Int32) ⊕ (Int32)) :=
  if 4 ≤ x30 then
    (some (Sum.inr x29))
  else
    (B1 (ixA 4 x30) fun k32 =>
    B1 ((if (cL σ (110 + k32)).isSome = true then
        (some 1)
      else
        (some 0)) : Option (Int32)) fun x36 =>
    some (Sum.inl (x29 + x36, x30 + 1)))
noncomputable def c_counted (σ : St) (a1 : Int32) : Option (Int32) :=
  if a1 = 0 then
    (some (cI σ 11))
  else if a1 = 1 then
    (some (cI σ 19))
  else if a1 = 2 then
    (B1 (lq2 (c_counted_L1 σ) 0 0) fun x4 =>
    some x4)
  else if a1 = 3 then
    (B1 (lq2 (c_counted_L11 σ) 0 0) fun x14 =>
    some (x14 / 2))
  else if a1 = 4 then
    (some (cI σ 33))
  else if a1 = 5 then
    (some (cI σ 22))
  else if a1 = 6 then
    (B1 (lq2 (c_counted_L19 σ) 0 0) fun x22 =>
    some x22)
  else (B1 (lq2 (c_counted_L28 σ) 0 0) fun x31 =>
    some x31)
noncomputable def c_count (σ : St) (a1 : Int32) : Option (Int32) :=
  B1 (c_in a1 0 7) fun v2 =>
  B1 ((if v2 = 0 then
      (some (-1))
    else
      (B1 (c_counted σ a1) fun v6 =>
      some v6)) : Option (Int32)) fun x4 =>
  some x4
noncomputable def c_finding (σ : St)  : Option (Int32) :=
  some (cI σ 0)
noncomputable def c_findings (σ : St) (a1 : Int32) : Option (Int32) :=
  B1 (c_in a1 1 5) fun v2 =>
  B1 ((if v2 = 0 then
      (some (-1))
    else
      (B1 (rdA 6 σ 1 a1) fun v5 =>
      some v5)) : Option (Int32)) fun x4 =>
  some x4
noncomputable def c_mix (σ : St) (a1 : Int64) : Option (St) :=
  some (sJ σ 61 ((31 * (cJ σ 61)) + a1))
noncomputable def c_mixWays_L5 (x3 : Int32) (σ6 : St) (x7 : Int32) : Option ((St × Int32) ⊕ (St)) :=
  if 8 ≤ x7 then
    (some (Sum.inr σ6))
  else
    (B1 (rdA 64 σ6 12 ((8 * x3) + x7)) fun v9 =>
    B1 (c_mix σ6 v9.toInt64) fun σ12 =>
    B1 (rdA 64 σ12 13 ((8 * x3) + x7)) fun v13 =>
    B1 (c_mix σ12 v13.toInt64) fun σ16 =>
    B1 (rdA 64 σ16 14 ((8 * x3) + x7)) fun v17 =>
    B1 (c_mix σ16 v17.toInt64) fun σ20 =>
    B1 (rdA 64 σ20 15 ((8 * x3) + x7)) fun v21 =>
    B1 (c_mix σ20 v21.toInt64) fun σ24 =>
    some (Sum.inl (σ24, x7 + 1)))
noncomputable def c_mixWays_L1  (σ2 : St) (x3 : Int32) : Option ((St × Int32) ⊕ (St)) :=
  if 8 ≤ x3 then
    (some (Sum.inr σ2))
  else
    (B1 (lq2 (c_mixWays_L5 x3) σ2 (x3 + 1)) fun σ8 =>
    some (Sum.inl (σ8, x3 + 1)))
noncomputable def c_mixWays (σ : St)  : Option (St) :=
  B1 (lq2 (c_mixWays_L1) σ 0) fun σ4 =>
  some σ4
noncomputable def c_digest_L15 (x13 : Int32) (σ16 : St) (x17 : Int32) : Option ((St × Int32) ⊕ (St)) :=
  if 8 ≤ x17 then
    (some (Sum.inr σ16))
  else
    (B1 (ixD σ16 120 12 x13) fun k19 =>
    B1 (c_tells σ16 (120 + k19) x17) fun v22 =>
    B1 (c_mix σ16 v22.toInt64) fun σ24 =>
    some (Sum.inl (σ24, x17 + 1)))
noncomputable def c_digest_L29 (x27 : Int32) (σ30 : St) (x31 : Int32) : Option ((St × Int32) ⊕ (St)) :=
  if 5 ≤ x31 then
    (some (Sum.inr σ30))
  else
    (B1 (c_tractorTells σ30 x27 x31) fun v34 =>
    B1 (c_mix σ30 v34.toInt64) fun σ36 =>
    some (Sum.inl (σ36, x31 + 1)))
noncomputable def c_digest_L86 (σ74 : St) (k77 : Nat) (σ87 : St) (x88 : Int32) : Option ((St × Int32) ⊕ (St)) :=
  if (cL σ74 (100 + k77)).isSome = true then
    (B1 (cL σ87 (100 + k77)) fun n91 =>
    if (nI n91) ≤ x88 then
      (some (Sum.inr σ87))
    else
      (B1 (rdD σ87 (100 + k77) x88) fun v93 =>
      B1 (c_mix σ87 v93.toInt64) fun σ96 =>
      some (Sum.inl (σ96, x88 + 1))))
  else
    (some (Sum.inr σ87))
noncomputable def c_digest_L110 (σ98 : St) (k101 : Nat) (σ111 : St) (x112 : Int32) : Option ((St × Int32) ⊕ (St)) :=
  if (cL σ98 (110 + k101)).isSome = true then
    (B1 (cL σ111 (110 + k101)) fun n115 =>
    if (nI n115) ≤ x112 then
      (some (Sum.inr σ111))
    else
      (B1 (rdD σ111 (110 + k101) x112) fun v117 =>
      B1 (c_mix σ111 v117.toInt64) fun σ120 =>
      some (Sum.inl (σ120, x112 + 1))))
  else
    (some (Sum.inr σ111))
noncomputable def c_digest_L97  (σ98 : St) (x99 : Int32) : Option ((St × Int32) ⊕ (St)) :=
  if 4 ≤ x99 then
    (some (Sum.inr σ98))
  else
    (B1 (ixA 4 x99) fun k101 =>
    B1 ((if (cL σ98 (110 + k101)).isSome = true then
        (B1 (cL σ98 (110 + k101)) fun n106 =>
        some ((nI n106).toInt64))
      else
        (some (-1))) : Option (Int64)) fun x105 =>
    B1 (c_mix σ98 x105) fun σ109 =>
    B1 (lq2 (c_digest_L110 σ98 k101) σ109 0) fun σ113 =>
    some (Sum.inl (σ113, x99 + 1)))
noncomputable def c_digest_L73  (σ74 : St) (x75 : Int32) : Option ((St × Int32) ⊕ (St)) :=
  if 6 ≤ x75 then
    (some (Sum.inr σ74))
  else
    (B1 (ixA 6 x75) fun k77 =>
    B1 ((if (cL σ74 (100 + k77)).isSome = true then
        (B1 (cL σ74 (100 + k77)) fun n82 =>
        some ((nI n82).toInt64))
      else
        (some (-1))) : Option (Int64)) fun x81 =>
    B1 (c_mix σ74 x81) fun σ85 =>
    B1 (lq2 (c_digest_L86 σ74 k77) σ85 0) fun σ89 =>
    some (Sum.inl (σ89, x75 + 1)))
noncomputable def c_digest_L57  (σ58 : St) (x59 : Int32) : Option ((St × Int32) ⊕ (St)) :=
  if (cI σ58 33) ≤ x59 then
    (some (Sum.inr σ58))
  else
    (B1 (rdA 20 σ58 34 x59) fun v61 =>
    B1 (c_mix σ58 v61.toInt64) fun σ64 =>
    B1 (rdA 20 σ64 35 x59) fun v65 =>
    B1 (c_mix σ64 v65.toInt64) fun σ68 =>
    some (Sum.inl (σ68, x59 + 1)))
noncomputable def c_digest_L37  (σ38 : St) (x39 : Int32) : Option ((St × Int32) ⊕ (St)) :=
  if (cI σ38 22) ≤ x39 then
    (some (Sum.inr σ38))
  else
    (B1 (rdA 60 σ38 23 x39) fun v41 =>
    B1 (c_mix σ38 v41.toInt64) fun σ44 =>
    B1 (rdA 60 σ44 24 x39) fun v45 =>
    B1 (c_mix σ44 v45.toInt64) fun σ48 =>
    B1 (rdA 60 σ48 25 x39) fun v49 =>
    B1 (c_mix σ48 v49.toInt64) fun σ52 =>
    B1 (rdA 60 σ52 26 x39) fun v53 =>
    B1 (c_mix σ52 v53.toInt64) fun σ56 =>
    some (Sum.inl (σ56, x39 + 1)))
noncomputable def c_digest_L25  (σ26 : St) (x27 : Int32) : Option ((St × Int32) ⊕ (St)) :=
  if 6 ≤ x27 then
    (some (Sum.inr σ26))
  else
    (B1 (lq2 (c_digest_L29 x27) σ26 0) fun σ32 =>
    some (Sum.inl (σ32, x27 + 1)))
noncomputable def c_digest_L11  (σ12 : St) (x13 : Int32) : Option ((St × Int32) ⊕ (St)) :=
  if (cI σ12 19) ≤ x13 then
    (some (Sum.inr σ12))
  else
    (B1 (lq2 (c_digest_L15 x13) σ12 0) fun σ18 =>
    some (Sum.inl (σ18, x13 + 1)))
noncomputable def c_digest_L1  (σ2 : St) (x3 : Int32) : Option ((St × Int32) ⊕ (St)) :=
  if 8 ≤ x3 then
    (some (Sum.inr σ2))
  else
    (B1 (c_counted σ2 x3) fun v6 =>
    B1 (c_mix σ2 v6.toInt64) fun σ8 =>
    some (Sum.inl (σ8, x3 + 1)))
noncomputable def c_digest (σ : St)  : Option (Int64 × St) :=
  B1 (lq2 (c_digest_L1) (sJ σ 61 17) 0) fun σ4 =>
  B1 (c_mixWays σ4) fun σ10 =>
  B1 (lq2 (c_digest_L11) σ10 0) fun σ14 =>
  B1 (lq2 (c_digest_L25) σ14 0) fun σ28 =>
  B1 (lq2 (c_digest_L37) σ28 0) fun σ40 =>
  B1 (lq2 (c_digest_L57) σ40 0) fun σ60 =>
  B1 (c_mix σ60 ((cI σ60 20).toInt64)) fun σ70 =>
  B1 (c_mix σ70 ((cI σ70 21).toInt64)) fun σ72 =>
  B1 (lq2 (c_digest_L73) σ72 0) fun σ76 =>
  B1 (lq2 (c_digest_L97) σ76 0) fun σ100 =>
  some (cJ σ100 61, σ100)
