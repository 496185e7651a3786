noncomputable def m_in (a0 : Int32) (a1 : Int32) (a2 : Int32) : Option (Int32) :=
  B1 ((if a0 < a1 then
      (some 0)
    else
      (if a2 < a0 then
        (some 0)
      else
        (some 1))) : Option (Int32)) fun x2 =>
  B1 (bZ x2) fun v4 =>
  some v4
noncomputable def m_meets (σ : St) (a1 : Int32) : Option (Int32 × St) :=
  B1 (rdA 6 (sI σ 0 a1) 1 a1) fun v1 =>
  B1 (wrA 6 (sI σ 0 a1) 1 a1 (v1 + 1)) fun σ3 =>
  some ((-3), σ3)
noncomputable def m_ask (σ : St) (a1 : Int32) (a2 : Int32) : Option (Int32 × St) :=
  some (a2, sI σ 2 a1)
noncomputable def m_share_L3  (x4 : Int64) (x5 : Int64) : Option ((Int64 × Int64) ⊕ (Int64)) :=
  if (lg_cmp x5 0) = 0 then
    (some (Sum.inr x4))
  else
    (B1 (nzL x5) fun v8 =>
    some (Sum.inl (x5, x4 - x4 / x5 * x5)))
noncomputable def m_share (σ : St) (a1 : Int64) (a3 : Int64) : Option (Int32 × St) :=
  B1 ((if 0 ≤ (lg_cmp a1 0) then
      (some a1)
    else
      (some (-a1))) : Option (Int64)) fun x2 =>
  B1 (lq2 (m_share_L3) x2 a3) fun x6 =>
  B1 (nzL x6) fun v10 =>
  B1 (nzL x6) fun v12 =>
  some (1, sJ (sJ σ 3 (a1 / x6)) 4 (a3 / x6))
noncomputable def m_day (a0 : Int32) : Option (Int32) :=
  some (a0 / 1440)
noncomputable def m_isRow (a0 : Int32) : Option (Int32) :=
  B1 (m_in a0 0 5) fun v2 =>
  B1 (bZ v2) fun v4 =>
  some v4
noncomputable def m_askedRow (σ : St) (a1 : Int32) : Option (Int32 × St) :=
  B1 (m_isRow a1) fun v2 =>
  B2 ((if v2 = 0 then
      (some (σ, (-1)))
    else
      (B1 (rdA 6 σ 6 a1) fun v6 =>
      if 0 ≤ v6 then
        (some (σ, 0))
      else
        (B2 (m_meets σ 1) fun v9 σ10 =>
        some (σ10, v9)))) : Option (St × Int32)) fun σ4 x5 =>
  some (x5, σ4)
noncomputable def m_row_L5 (a1 : Int32) (σ6 : St) (x7 : Int32) : Option ((St × Int32) ⊕ (St)) :=
  if 40 ≤ x7 then
    (some (Sum.inr σ6))
  else
    (B1 (wrA 240 σ6 7 ((40 * a1) + x7) 0) fun σ9 =>
    some (Sum.inl (σ9, x7 + 1)))
noncomputable def m_row (σ : St) (a1 : Int32) (a2 : Int32) : Option (Int32 × St) :=
  B1 (m_isRow a1) fun v2 =>
  if v2 = 0 then
    (some ((-1), σ))
  else
    (if a2 ≤ 40 then
      (if 0 ≤ a2 then
        (B1 (wrA 6 σ 6 a1 a2) fun σ3 =>
        B1 (lq2 (m_row_L5 a1) σ3 0) fun σ8 =>
        some (a2, σ8))
      else
        (B2 (m_meets σ 5) fun v12 σ13 =>
        some (v12, σ13)))
    else
      (some ((-1), σ)))
noncomputable def m_lay (σ : St) (a1 : Int32) (a2 : Int32) (a3 : Int32) : Option (Int32 × St) :=
  B2 (m_askedRow σ a1) fun v2 σ3 =>
  if 0 ≤ v2 then
    (B1 (rdA 6 σ3 6 a1) fun v4 =>
    B1 (m_in a2 0 (v4 - 1)) fun v7 =>
    if v7 = 0 then
      (B2 (m_meets σ3 2) fun v13 σ14 =>
      some (v13, σ14))
    else
      (B1 (rdA 240 σ3 7 ((40 * a1) + a2)) fun v8 =>
      B1 (wrA 240 (sI σ3 2 v8) 7 ((40 * a1) + a2) a3) fun σ10 =>
      some (1, σ10)))
  else
    (some (v2, σ3))
noncomputable def m_tear (σ : St) (a1 : Int32) : Option (Int32 × St) :=
  B2 (m_askedRow σ a1) fun v2 σ3 =>
  if 0 ≤ v2 then
    (B1 (wrA 6 σ3 6 a1 (-9)) fun σ4 =>
    some (1, σ4))
  else
    (some (v2, σ3))
noncomputable def m_copy_L33 (a3 : Int32) (a4 : Int32) (a5 : Int32) (σ34 : St) (x35 : Int32) : Option ((St × Int32) ⊕ (St)) :=
  if a5 ≤ x35 then
    (some (Sum.inr σ34))
  else
    (B1 (rdA 40 σ34 8 x35) fun v37 =>
    B1 (wrA 240 σ34 7 (((40 * a3) + a4) + x35) v37) fun σ39 =>
    some (Sum.inl (σ39, x35 + 1)))
noncomputable def m_copy_L25 (a1 : Int32) (a2 : Int32) (a5 : Int32) (σ26 : St) (x27 : Int32) : Option ((St × Int32) ⊕ (St)) :=
  if a5 ≤ x27 then
    (some (Sum.inr σ26))
  else
    (B1 (rdA 240 σ26 7 (((40 * a1) + a2) + x27)) fun v29 =>
    B1 (wrA 40 σ26 8 x27 v29) fun σ31 =>
    some (Sum.inl (σ31, x27 + 1)))
noncomputable def m_copy (σ : St) (a1 : Int32) (a2 : Int32) (a3 : Int32) (a4 : Int32) (a5 : Int32) : Option (Int32 × St) :=
  B1 (m_isRow a1) fun v2 =>
  if v2 = 0 then
    (some ((-1), σ))
  else
    (B1 (m_isRow a3) fun v4 =>
    if v4 = 0 then
      (some ((-1), σ))
    else
      (if 0 ≤ a5 then
        (B1 (rdA 6 σ 6 a1) fun v5 =>
        if v5 < 0 then
          (B2 (m_meets σ 1) fun v8 σ9 =>
          some (v8, σ9))
        else
          (B1 (rdA 6 σ 6 a3) fun v10 =>
          if 0 ≤ v10 then
            (if a2 < 0 then
              (B2 (m_meets σ 2) fun v13 σ14 =>
              some (v13, σ14))
            else
              (if a4 < 0 then
                (B2 (m_meets σ 2) fun v16 σ17 =>
                some (v16, σ17))
              else
                (B1 (rdA 6 σ 6 a1) fun v18 =>
                if 0 < (lg_cmp (a2.toInt64 + a5.toInt64) v18.toInt64) then
                  (B2 (m_meets σ 2) fun v21 σ22 =>
                  some (v21, σ22))
                else
                  (B1 (rdA 6 σ 6 a3) fun v23 =>
                  if (lg_cmp (a4.toInt64 + a5.toInt64) v23.toInt64) ≤ 0 then
                    (B1 (lq2 (m_copy_L25 a1 a2 a5) σ 0) fun σ28 =>
                    B1 (lq2 (m_copy_L33 a3 a4 a5) σ28 0) fun σ36 =>
                    some (1, σ36))
                  else
                    (B2 (m_meets σ 2) fun v42 σ43 =>
                    some (v42, σ43))))))
          else
            (B2 (m_meets σ 1) fun v45 σ46 =>
            some (v45, σ46))))
      else
        (B2 (m_meets σ 5) fun v48 σ49 =>
        some (v48, σ49))))
noncomputable def m_isText (a0 : Int32) : Option (Int32) :=
  B1 (m_in a0 0 3) fun v2 =>
  B1 (bZ v2) fun v4 =>
  some v4
noncomputable def m_askedText (σ : St) (a1 : Int32) : Option (Int32 × St) :=
  B1 (m_isText a1) fun v2 =>
  B2 ((if v2 = 0 then
      (some (σ, (-1)))
    else
      (B1 (rdA 4 σ 9 a1) fun v6 =>
      if 0 ≤ v6 then
        (some (σ, 0))
      else
        (B2 (m_meets σ 1) fun v9 σ10 =>
        some (σ10, v9)))) : Option (St × Int32)) fun σ4 x5 =>
  some (x5, σ4)
noncomputable def m_text_L5 (a1 : Int32) (σ6 : St) (x7 : Int32) : Option ((St × Int32) ⊕ (St)) :=
  if 40 ≤ x7 then
    (some (Sum.inr σ6))
  else
    (B1 (wrA 160 σ6 10 ((40 * a1) + x7) 32) fun σ9 =>
    some (Sum.inl (σ9, x7 + 1)))
noncomputable def m_text (σ : St) (a1 : Int32) (a2 : Int32) : Option (Int32 × St) :=
  B1 (m_isText a1) fun v2 =>
  if v2 = 0 then
    (some ((-1), σ))
  else
    (if a2 ≤ 40 then
      (if 0 ≤ a2 then
        (B1 (wrA 4 σ 9 a1 a2) fun σ3 =>
        B1 (lq2 (m_text_L5 a1) σ3 0) fun σ8 =>
        some (a2, σ8))
      else
        (B2 (m_meets σ 5) fun v12 σ13 =>
        some (v12, σ13)))
    else
      (some ((-1), σ)))
noncomputable def m_put (σ : St) (a1 : Int32) (a2 : Int32) (a3 : Int32) : Option (Int32 × St) :=
  B2 (m_askedText σ a1) fun v2 σ3 =>
  if 0 ≤ v2 then
    (B1 (rdA 4 σ3 9 a1) fun v4 =>
    B1 (m_in a2 0 (v4 - 1)) fun v7 =>
    if v7 = 0 then
      (B2 (m_meets σ3 2) fun v13 σ14 =>
      some (v13, σ14))
    else
      (B1 (rdA 160 σ3 10 ((40 * a1) + a2)) fun v8 =>
      B1 (wrA 160 σ3 10 ((40 * a1) + a2) a3.toInt8.toInt32) fun σ10 =>
      some (v8 + 1000, σ10)))
  else
    (some (v2, σ3))
noncomputable def m_later (σ : St) (a1 : Int32) : Option (Int32 × St) :=
  if a1 < 0 then
    (some ((-1), σ))
  else
    (if a1 ≤ (99999 - (cI σ 5)) then
      (some (cI (sI σ 5 ((cI σ 5) + a1)) 5, sI σ 5 ((cI σ 5) + a1)))
    else
      (some ((-1), σ)))
noncomputable def m_isYard (a0 : Int32) : Option (Int32) :=
  B1 (m_in a0 0 7) fun v2 =>
  B1 (bZ v2) fun v4 =>
  some v4
noncomputable def m_setWay (σ : St) (a1 : Int32) (a2 : Int32) (a3 : Int32) (a4 : Int32) (a5 : Int32) (a6 : Int32) : Option (St) :=
  B1 (wrA 64 σ 11 ((8 * a1) + a2) a3) fun σ1 =>
  B1 (wrA 64 σ1 12 ((8 * a1) + a2) a4) fun σ3 =>
  B1 (wrA 64 σ3 13 ((8 * a1) + a2) a5) fun σ5 =>
  B1 (wrA 64 σ5 14 ((8 * a1) + a2) a6) fun σ7 =>
  some σ7
noncomputable def m_way (σ : St) (a1 : Int32) (a2 : Int32) (a3 : Int32) (a4 : Int32) : Option (Int32 × St) :=
  B1 (m_isYard a1) fun v2 =>
  if v2 = 0 then
    (some ((-1), σ))
  else
    (B1 (m_isYard a2) fun v4 =>
    if v4 = 0 then
      (some ((-1), σ))
    else
      (if a1 = a2 then
        (some ((-1), σ))
      else
        (B1 (m_in a3 1 600) fun v6 =>
        if v6 = 0 then
          (some ((-1), σ))
        else
          (B1 (m_in a4 0 999) fun v8 =>
          if v8 = 0 then
            (some ((-1), σ))
          else
            (B1 (m_setWay σ a1 a2 a3 a4 0 0) fun σ10 =>
            B1 (m_setWay σ10 a2 a1 a3 a4 0 0) fun σ12 =>
            some (1, σ12))))))
noncomputable def m_ferry (σ : St) (a1 : Int32) (a2 : Int32) (a3 : Int32) (a4 : Int32) : Option (Int32 × St) :=
  B1 (m_isYard a1) fun v2 =>
  if v2 = 0 then
    (some ((-1), σ))
  else
    (B1 (m_isYard a2) fun v4 =>
    if v4 = 0 then
      (some ((-1), σ))
    else
      (B1 (m_in a3 1 1440) fun v6 =>
      if v6 = 0 then
        (some ((-1), σ))
      else
        (B1 (m_in a4 0 (a3 - 1)) fun v8 =>
        if v8 = 0 then
          (some ((-1), σ))
        else
          (B1 (rdA 64 σ 11 ((8 * a1) + a2)) fun v9 =>
          if v9 = 0 then
            (B2 (m_meets σ 1) fun v24 σ25 =>
            some (v24, σ25))
          else
            (B1 (rdA 64 σ 11 ((8 * a1) + a2)) fun v11 =>
            B1 (rdA 64 σ 12 ((8 * a1) + a2)) fun v13 =>
            B1 (m_setWay σ a1 a2 v11 v13 a3 a4) fun σ16 =>
            B1 (rdA 64 σ16 11 ((8 * a1) + a2)) fun v17 =>
            B1 (rdA 64 σ16 12 ((8 * a1) + a2)) fun v19 =>
            B1 (m_setWay σ16 a2 a1 v17 v19 a3 a4) fun σ22 =>
            some (1, σ22))))))
noncomputable def m_beyond (σ : St) (a1 : Int32) (a2 : Int32) : Option (Int32) :=
  B1 (rdA 64 σ 13 a1) fun v1 =>
  B1 ((if v1 ≤ 0 then
      (some a2)
    else
      (B1 (rdA 64 σ 14 a1) fun v5 =>
      B1 (rdA 64 σ 13 a1) fun v7 =>
      B1 (rdA 64 σ 13 a1) fun v9 =>
      B1 (nz v9) fun v12 =>
      B1 (rdA 64 σ 14 a1) fun v13 =>
      B1 ((if v13 < a2 then
          (B1 (rdA 64 σ 14 a1) fun v17 =>
          B1 (rdA 64 σ 13 a1) fun v19 =>
          some (v17 + (((((a2 - v5) + v7) - 1) / v9) * v19)))
        else
          (B1 (rdA 64 σ 14 a1) fun v21 =>
          some v21)) : Option (Int32)) fun x16 =>
      some x16)) : Option (Int32)) fun x4 =>
  B1 (rdA 64 σ 11 a1) fun v23 =>
  some (x4 + v23)
noncomputable def m_comesTo_L19 (x16 : Int32) (σ20 : St) (x21 : Int32) (x22 : Int32) : Option ((St × Int32 × Int32) ⊕ (St × Int32)) :=
  if 8 ≤ x22 then
    (some (Sum.inr (σ20, x21)))
  else
    (B1 (rdA 64 σ20 11 ((8 * x16) + x22)) fun v25 =>
    B2 ((if v25 ≤ 0 then
        (some (σ20, x21))
      else
        (B1 (rdA 8 σ20 15 x16) fun v30 =>
        if 100000000 ≤ v30 then
          (some (σ20, x21))
        else
          (B1 (rdA 8 σ20 15 x16) fun v32 =>
          B1 (m_beyond σ20 ((8 * x16) + x22) v32) fun v35 =>
          B1 (rdA 8 σ20 15 x22) fun v36 =>
          if v36 ≤ v35 then
            (some (σ20, x21))
          else
            (B1 (rdA 8 σ20 15 x16) fun v38 =>
            B1 (m_beyond σ20 ((8 * x16) + x22) v38) fun v41 =>
            B1 (wrA 8 σ20 15 x22 v41) fun σ42 =>
            some (σ42, 1))))) : Option (St × Int32)) fun σ28 x29 =>
    some (Sum.inl (σ28, x29, x22 + 1)))
noncomputable def m_comesTo_L13  (σ14 : St) (x15 : Int32) (x16 : Int32) : Option ((St × Int32 × Int32) ⊕ (St × Int32)) :=
  if 8 ≤ x16 then
    (some (Sum.inr (σ14, x15)))
  else
    (B2 (lq3 (m_comesTo_L19 x16) σ14 x15 0) fun σ23 x24 =>
    some (Sum.inl (σ23, x24, x16 + 1)))
noncomputable def m_comesTo_L9  (σ10 : St) (x11 : Int32) : Option ((St × Int32) ⊕ (St)) :=
  if x11 = 0 then
    (some (Sum.inr σ10))
  else
    (B2 (lq3 (m_comesTo_L13) σ10 0 0) fun σ17 x18 =>
    some (Sum.inl (σ17, x18)))
noncomputable def m_comesTo_L1 (a1 : Int32) (a2 : Int32) (σ2 : St) (x3 : Int32) : Option ((St × Int32) ⊕ (St)) :=
  if 8 ≤ x3 then
    (some (Sum.inr σ2))
  else
    (B1 ((if x3 = a1 then
        (some a2)
      else
        (some 100000000)) : Option (Int32)) fun x6 =>
    B1 (wrA 8 σ2 15 x3 x6) fun σ7 =>
    some (Sum.inl (σ7, x3 + 1)))
noncomputable def m_comesTo (σ : St) (a1 : Int32) (a2 : Int32) (a3 : Int32) : Option (Int32 × St) :=
  B1 (lq2 (m_comesTo_L1 a1 a2) σ 0) fun σ4 =>
  B1 (lq2 (m_comesTo_L9) σ4 1) fun σ12 =>
  B1 (rdA 8 σ12 15 a3) fun v44 =>
  some (v44, σ12)
noncomputable def m_comes (σ : St) (a1 : Int32) (a2 : Int32) (a3 : Int32) : Option (Int32 × St) :=
  B1 (m_isYard a1) fun v2 =>
  if v2 = 0 then
    (some ((-1), σ))
  else
    (B1 (m_in a2 0 99999) fun v4 =>
    if v4 = 0 then
      (some ((-1), σ))
    else
      (B1 (m_isYard a3) fun v6 =>
      if v6 = 0 then
        (some ((-1), σ))
      else
        (B2 (m_comesTo σ a1 a2 a3) fun v8 σ9 =>
        B2 ((if 100000000 ≤ v8 then
            (B2 (m_meets σ9 1) fun v14 σ15 =>
            some (σ15, v14))
          else
            (some (σ9, v8))) : Option (St × Int32)) fun σ11 x12 =>
        some (x12, σ11))))
noncomputable def m_toll_L17  (σ18 : St) (x19 : Int32) : Option ((St × Int32) ⊕ (St)) :=
  if 64 ≤ x19 then
    (some (Sum.inr σ18))
  else
    (B1 (rdA 64 σ18 11 x19) fun v21 =>
    B1 ((if v21 ≤ 0 then
        (some 100000000)
      else
        (B1 (rdA 8 σ18 15 (x19 / 8)) fun v25 =>
        B1 (rdA 64 σ18 12 x19) fun v27 =>
        some (v25 + v27))) : Option (Int32)) fun x24 =>
    B1 (rdA 8 σ18 15 (x19 - x19 / 8 * 8)) fun v29 =>
    B1 ((if v29 ≤ x24 then
        (B1 (rdA 8 σ18 15 (x19 - x19 / 8 * 8)) fun v33 =>
        some v33)
      else
        (some x24)) : Option (Int32)) fun x32 =>
    B1 (wrA 8 σ18 15 (x19 - x19 / 8 * 8) x32) fun σ35 =>
    some (Sum.inl (σ35, x19 + 1)))
noncomputable def m_toll_L13  (σ14 : St) (x15 : Int32) : Option ((St × Int32) ⊕ (St)) :=
  if 8 ≤ x15 then
    (some (Sum.inr σ14))
  else
    (B1 (lq2 (m_toll_L17) σ14 0) fun σ20 =>
    some (Sum.inl (σ20, x15 + 1)))
noncomputable def m_toll_L5 (a1 : Int32) (σ6 : St) (x7 : Int32) : Option ((St × Int32) ⊕ (St)) :=
  if 8 ≤ x7 then
    (some (Sum.inr σ6))
  else
    (B1 ((if x7 = a1 then
        (some 0)
      else
        (some 100000000)) : Option (Int32)) fun x10 =>
    B1 (wrA 8 σ6 15 x7 x10) fun σ11 =>
    some (Sum.inl (σ11, x7 + 1)))
noncomputable def m_toll (σ : St) (a1 : Int32) (a2 : Int32) : Option (Int32 × St) :=
  B1 (m_isYard a1) fun v2 =>
  if v2 = 0 then
    (some ((-1), σ))
  else
    (B1 (m_isYard a2) fun v4 =>
    if v4 = 0 then
      (some ((-1), σ))
    else
      (B1 (lq2 (m_toll_L5 a1) σ 0) fun σ8 =>
      B1 (lq2 (m_toll_L13) σ8 0) fun σ16 =>
      B1 (rdA 8 σ16 15 a2) fun v37 =>
      B2 ((if 100000000 ≤ v37 then
          (B2 (m_meets σ16 1) fun v43 σ44 =>
          some (σ44, v43))
        else
          (B1 (rdA 8 σ16 15 a2) fun v45 =>
          some (σ16, v45))) : Option (St × Int32)) fun σ40 x41 =>
      some (x41, σ40)))
noncomputable def m_enter (σ : St) (a1 : Int32) (a2 : Int32) (a3 : Int32) (a4 : Int32) : Option (St) :=
  B1 (wrA 60 σ 35 (cI σ 34) a1) fun σ1 =>
  B1 (wrA 60 σ1 36 (cI σ1 34) a2) fun σ3 =>
  B1 (wrA 60 σ3 37 (cI σ3 34) (cI σ3 5)) fun σ5 =>
  B1 (wrA 60 σ5 38 (cI σ5 34) a3) fun σ7 =>
  B1 (wrA 60 σ7 39 (cI σ7 34) a4) fun σ9 =>
  some (sI σ9 34 ((cI σ9 34) + 1))
noncomputable def m_isTrailer (σ : St) (a1 : Int32) : Option (Int32) :=
  B1 (m_in a1 0 ((cI σ 16) - 1)) fun v2 =>
  B1 (bZ v2) fun v4 =>
  some v4
noncomputable def m_isTractor (a0 : Int32) : Option (Int32) :=
  B1 (m_in a0 0 5) fun v2 =>
  B1 (bZ v2) fun v4 =>
  some v4
noncomputable def m_isWorth (a0 : Int32) : Option (Int32) :=
  B1 (m_in a0 0 100000) fun v2 =>
  B1 (bZ v2) fun v4 =>
  some v4
noncomputable def m_trailer (σ : St) (a1 : Int32) (a2 : Int32) (a3 : Int32) : Option (Int32 × St) :=
  B1 (m_in a1 0 3) fun v2 =>
  if v2 = 0 then
    (some ((-1), σ))
  else
    (B1 (m_isYard a2) fun v4 =>
    if v4 = 0 then
      (some ((-1), σ))
    else
      (B1 (m_isWorth a3) fun v6 =>
      if v6 = 0 then
        (some ((-1), σ))
      else
        (if (cI σ 16) = 12 then
          (some ((-2), σ))
        else
          (if (cI σ 34) = 60 then
            (some ((-2), σ))
          else
            (B1 (wrA 12 σ 17 (cI σ 16) a1) fun σ7 =>
            B1 (wrA 12 σ7 18 (cI σ7 16) a2) fun σ9 =>
            B1 (wrA 12 σ9 19 (cI σ9 16) (-9)) fun σ11 =>
            B1 (wrA 12 σ11 21 (cI σ11 16) a3) fun σ13 =>
            B1 (wrA 12 σ13 22 (cI σ13 16) 100) fun σ15 =>
            B1 ((if a1 = 3 then
                (some (-18))
              else
                (some 5)) : Option (Int32)) fun x18 =>
            B1 (wrA 12 σ15 27 (cI σ15 16) x18) fun σ19 =>
            B1 (m_enter σ19 (cI σ19 16) 0 a2 a2) fun σ22 =>
            some ((cI (sI σ22 16 ((cI σ22 16) + 1)) 16) - 1, sI σ22 16 ((cI σ22 16) + 1)))))))
noncomputable def m_trailerTells (σ : St) (a1 : Int32) (a2 : Int32) : Option (Int32) :=
  if a2 = 0 then
    (B1 (rdA 12 σ 17 a1) fun v1 =>
    some v1)
  else if a2 = 1 then
    (B1 (rdA 12 σ 18 a1) fun v3 =>
    some v3)
  else if a2 = 2 then
    (B1 (rdA 12 σ 19 a1) fun v5 =>
    some v5)
  else if a2 = 3 then
    (B1 (rdA 12 σ 20 a1) fun v7 =>
    B1 ((if v7 = 0 then
        (some 0)
      else
        (some 1)) : Option (Int32)) fun x10 =>
    some x10)
  else if a2 = 4 then
    (B1 (rdA 12 σ 21 a1) fun v11 =>
    some v11)
  else if a2 = 5 then
    (B1 (rdA 12 σ 22 a1) fun v13 =>
    some v13)
  else if a2 = 6 then
    (B1 (rdA 12 σ 23 a1) fun v15 =>
    some v15)
  else (B1 (rdA 12 σ 26 a1) fun v17 =>
    B1 ((if v17 = 0 then
        (some 0)
      else
        (some 1)) : Option (Int32)) fun x20 =>
    some x20)
noncomputable def m_told (σ : St) (a1 : Int32) (a2 : Int32) : Option (Int32 × St) :=
  B1 (m_isTrailer σ a1) fun v2 =>
  B2 ((if v2 = 0 then
      (some (σ, (-1)))
    else
      (B1 (m_in a2 0 7) fun v7 =>
      if v7 = 0 then
        (some (σ, (-1)))
      else
        (B1 (m_trailerTells σ a1 a2) fun v9 =>
        B2 (m_ask σ v9 1) fun v11 σ12 =>
        some (σ12, v11)))) : Option (St × Int32)) fun σ4 x5 =>
  some (x5, σ4)
noncomputable def m_isCold (σ : St) (a1 : Int32) : Option (Int32) :=
  B1 (rdA 12 σ 17 a1) fun v1 =>
  B1 ((if v1 = 1 then
      (some 1)
    else
      (B1 (rdA 12 σ 17 a1) fun v5 =>
      if v5 = 3 then
        (some 1)
      else
        (some 0))) : Option (Int32)) fun x4 =>
  B1 (bZ x4) fun v8 =>
  some v8
noncomputable def m_entryFrom_L1 (σ : St) (a1 : Int32) (x2 : Int32) : Option ((Int32) ⊕ (Int32)) :=
  if (cI σ 34) ≤ x2 then
    (some (Sum.inr x2))
  else
    (B1 (rdA 60 σ 35 x2) fun v4 =>
    if v4 = a1 then
      (some (Sum.inr x2))
    else
      (some (Sum.inl (x2 + 1))))
noncomputable def m_entryFrom (σ : St) (a1 : Int32) (a2 : Int32) : Option (Int32) :=
  B1 (lq1 (m_entryFrom_L1 σ a1) a2) fun x3 =>
  B1 ((if (cI σ 34) ≤ x3 then
      (some (-9))
    else
      (some x3)) : Option (Int32)) fun x7 =>
  some x7
noncomputable def m_mark_K7 (a1 : Int32) (a2 : Int32) (σ8 : St) : Option (Int32 × St) :=
  B1 ((if a2 = 1 then
      (B1 (rdA 12 σ8 27 a1) fun v21 =>
      some v21)
    else
      (if a2 = 2 then
        (B1 (m_day (cI σ8 5)) fun v14 =>
        B1 (m_entryFrom σ8 a1 0) fun v16 =>
        B1 (rdA 60 σ8 37 v16) fun v17 =>
        B1 (m_day v17) fun v20 =>
        some (v14 - v20))
      else
        (B1 (rdA 12 σ8 28 a1) fun v11 =>
        some v11))) : Option (Int32)) fun x10 =>
  some (x10, σ8)
noncomputable def m_mark (σ : St) (a1 : Int32) (a2 : Int32) : Option (Int32 × St) :=
  B1 (m_isTrailer σ a1) fun v2 =>
  if v2 = 0 then
    (some ((-1), σ))
  else
    (B1 (m_in a2 1 3) fun v4 =>
    if v4 = 0 then
      (some ((-1), σ))
    else
      (B1 (rdA 12 σ 17 a1) fun v5 =>
      if v5 = a2 then
        (m_mark_K7 a1 a2 σ)
      else
        (if a2 = 1 then
          (B1 (m_isCold σ a1) fun v27 =>
          if v27 = 0 then
            (B2 (m_meets σ 3) fun v29 σ30 =>
            some (v29, σ30))
          else
            (m_mark_K7 a1 a2 σ))
        else
          (B2 (m_meets σ 3) fun v24 σ25 =>
          some (v24, σ25)))))
noncomputable def m_limit (σ : St) (a1 : Int32) (a2 : Int32) : Option (Int32 × St) :=
  B1 (m_isTrailer σ a1) fun v2 =>
  if v2 = 0 then
    (some ((-1), σ))
  else
    (B1 (m_in a2 (-50) 50) fun v4 =>
    if v4 = 0 then
      (some ((-1), σ))
    else
      (B1 (m_isCold σ a1) fun v6 =>
      if v6 = 0 then
        (B2 (m_meets σ 3) fun v12 σ13 =>
        some (v12, σ13))
      else
        (B1 (rdA 12 σ 27 a1) fun v7 =>
        B1 (wrA 12 (sI σ 2 v7) 27 a1 a2) fun σ9 =>
        some (1, σ9))))
noncomputable def m_isOnWay (σ : St) (a1 : Int32) : Option (Int32) :=
  B1 (rdA 6 σ 30 a1) fun v1 =>
  B1 ((if v1 ≤ (cI σ 5) then
      (some 0)
    else
      (some 1)) : Option (Int32)) fun x4 =>
  B1 (bZ x4) fun v6 =>
  some v6
noncomputable def m_park (σ : St) (a1 : Int32) (a2 : Int32) : Option (Int32 × St) :=
  B1 (m_isTractor a1) fun v2 =>
  if v2 = 0 then
    (some ((-1), σ))
  else
    (B1 (m_isYard a2) fun v4 =>
    if v4 = 0 then
      (some ((-1), σ))
    else
      (B1 (m_isOnWay σ a1) fun v6 =>
      if v6 = 0 then
        (B1 (wrA 6 σ 29 a1 a2) fun σ7 =>
        B1 (wrA 6 σ7 30 a1 (cI σ7 5)) fun σ9 =>
        B1 (wrA 6 σ9 32 a1 0) fun σ11 =>
        some (1, σ11))
      else
        (some ((-4), σ))))
noncomputable def m_hitch (σ : St) (a1 : Int32) (a2 : Int32) : Option (Int32 × St) :=
  B1 (m_isTractor a1) fun v2 =>
  if v2 = 0 then
    (some ((-1), σ))
  else
    (B1 (m_isTrailer σ a2) fun v4 =>
    if v4 = 0 then
      (some ((-1), σ))
    else
      (B1 (m_isOnWay σ a1) fun v6 =>
      if v6 = 0 then
        (B1 (rdA 6 σ 31 a1) fun v7 =>
        if 0 ≤ v7 then
          (some ((-4), σ))
        else
          (B1 (rdA 12 σ 18 a2) fun v9 =>
          B1 (rdA 6 σ 29 a1) fun v11 =>
          if v9 = v11 then
            (if (cI σ 34) = 60 then
              (some ((-2), σ))
            else
              (B1 (rdA 12 σ 18 a2) fun v13 =>
              B1 (m_enter σ a2 1 a1 v13) fun σ16 =>
              B1 (wrA 12 σ16 18 a2 (-9)) fun σ17 =>
              B1 (wrA 12 σ17 19 a2 a1) fun σ19 =>
              B1 (wrA 6 σ19 31 a1 a2) fun σ21 =>
              some (1, σ21)))
          else
            (some ((-4), σ))))
      else
        (some ((-4), σ))))
noncomputable def m_drop (σ : St) (a1 : Int32) : Option (Int32 × St) :=
  B1 (m_isTractor a1) fun v2 =>
  if v2 = 0 then
    (some ((-1), σ))
  else
    (B1 (m_isOnWay σ a1) fun v4 =>
    if v4 = 0 then
      (B1 (rdA 6 σ 31 a1) fun v5 =>
      if 0 ≤ v5 then
        (if (cI σ 34) = 60 then
          (some ((-2), σ))
        else
          (B1 (rdA 6 σ 31 a1) fun v7 =>
          B1 (wrA 6 σ 31 a1 (-9)) fun σ9 =>
          B1 (wrA 12 σ9 19 v7 (-9)) fun σ11 =>
          B1 (rdA 6 σ11 29 a1) fun v13 =>
          B1 (wrA 12 σ11 18 v7 v13) fun σ15 =>
          B1 (rdA 6 σ15 29 a1) fun v17 =>
          B1 (rdA 6 σ15 29 a1) fun v19 =>
          B1 (m_enter σ15 v7 0 v17 v19) fun σ22 =>
          some (v7, σ22)))
      else
        (some ((-4), σ)))
    else
      (some ((-4), σ)))
noncomputable def m_inForce_L3 (σ : St) (a3 : Int32) (a4 : Int32) (x2 : Int32) (x4 : Int32) (x5 : Int32) : Option ((Int32 × Int32) ⊕ (Int32)) :=
  if (cI σ 40) ≤ x5 then
    (some (Sum.inr x4))
  else
    (B1 (rdA 20 σ 41 x5) fun v7 =>
    B1 ((if a4 < v7 then
        (some 0)
      else
        (B1 (rdA 20 σ 42 x5) fun v11 =>
        if a3 < v11 then
          (some 0)
        else
          (B1 (rdA 360 σ 43 ((18 * x5) + x2)) fun v13 =>
          if v13 < 0 then
            (some 0)
          else
            (some 1)))) : Option (Int32)) fun x10 =>
    B1 ((if x10 = 0 then
        (some x4)
      else
        (if x4 < 0 then
          (some x5)
        else
          (B1 (rdA 20 σ 42 x5) fun v17 =>
          B1 (rdA 20 σ 42 x4) fun v19 =>
          if v17 < v19 then
            (some x4)
          else
            (some x5)))) : Option (Int32)) fun x16 =>
    some (Sum.inl (x16, x5 + 1)))
noncomputable def m_inForce (σ : St) (a1 : Int32) (a2 : Int32) (a3 : Int32) (a4 : Int32) : Option (Int32) :=
  B1 ((if a1 = 0 then
      (some a2)
    else
      (if a1 = 1 then
        (some (8 + a2))
      else
        (some (14 + a1)))) : Option (Int32)) fun x2 =>
  B1 (lq2 (m_inForce_L3 σ a3 a4 x2) (-9) 0) fun x6 =>
  B1 ((if x6 < 0 then
      (if a1 = 0 then
        (some 120)
      else
        (if a1 = 1 then
          (some 0)
        else
          (if a1 = 2 then
            (some 600)
          else
            (some 480))))
    else
      (B1 (rdA 360 σ 43 ((18 * x6) + x2)) fun v23 =>
      some v23)) : Option (Int32)) fun x22 =>
  some x22
noncomputable def m_go (σ : St) (a1 : Int32) (a2 : Int32) : Option (Int32 × St) :=
  B1 (m_isTractor a1) fun v2 =>
  if v2 = 0 then
    (some ((-1), σ))
  else
    (B1 (m_isYard a2) fun v4 =>
    if v4 = 0 then
      (some ((-1), σ))
    else
      (B1 (rdA 6 σ 29 a1) fun v5 =>
      if v5 = a2 then
        (some ((-1), σ))
      else
        (B1 (m_isOnWay σ a1) fun v8 =>
        if v8 = 0 then
          (B1 (rdA 6 σ 29 a1) fun v9 =>
          B2 (m_comesTo σ v9 (cI σ 5) a2) fun v12 σ13 =>
          if v12 = 100000000 then
            (B2 (m_meets σ13 1) fun v43 σ44 =>
            some (v43, σ44))
          else
            (B1 (rdA 6 σ13 30 a1) fun v14 =>
            B1 (m_day (cI σ13 5)) fun v17 =>
            B1 (m_day (cI σ13 5)) fun v19 =>
            B1 (m_inForce σ13 3 0 v17 v19) fun v21 =>
            B1 ((if ((cI σ13 5) - v14) < v21 then
                (B1 (rdA 6 σ13 32 a1) fun v24 =>
                some v24)
              else
                (some 0)) : Option (Int32)) fun x23 =>
            if 99999 < v12 then
              (some ((-4), σ13))
            else
              (B1 (m_day (cI σ13 5)) fun v27 =>
              B1 (m_day (cI σ13 5)) fun v29 =>
              B1 (m_inForce σ13 2 0 v27 v29) fun v31 =>
              if (x23 + (v12 - (cI σ13 5))) ≤ v31 then
                (B1 (wrA 6 σ13 32 a1 (x23 + (v12 - (cI σ13 5)))) fun σ32 =>
                B1 (rdA 6 σ32 33 a1) fun v34 =>
                B1 (wrA 6 σ32 33 a1 (v34 + (v12 - (cI σ13 5)))) fun σ36 =>
                B1 (wrA 6 σ36 29 a1 a2) fun σ38 =>
                B1 (wrA 6 σ38 30 a1 v12) fun σ40 =>
                some (v12, σ40))
              else
                (some ((-4), σ13)))))
        else
          (some ((-4), σ)))))
noncomputable def m_tractorTells (σ : St) (a1 : Int32) (a2 : Int32) : Option (Int32) :=
  if a2 = 0 then
    (B1 (rdA 6 σ 29 a1) fun v1 =>
    some v1)
  else if a2 = 1 then
    (B1 (rdA 6 σ 30 a1) fun v3 =>
    some v3)
  else if a2 = 2 then
    (B1 (rdA 6 σ 31 a1) fun v5 =>
    some v5)
  else if a2 = 3 then
    (B1 (rdA 6 σ 32 a1) fun v7 =>
    some v7)
  else (B1 (rdA 6 σ 33 a1) fun v9 =>
    some v9)
noncomputable def m_tractor (σ : St) (a1 : Int32) (a2 : Int32) : Option (Int32 × St) :=
  B1 (m_isTractor a1) fun v2 =>
  B2 ((if v2 = 0 then
      (some (σ, (-1)))
    else
      (B1 (m_in a2 0 4) fun v7 =>
      if v7 = 0 then
        (some (σ, (-1)))
      else
        (B1 (m_tractorTells σ a1 a2) fun v9 =>
        B2 (m_ask σ v9 1) fun v11 σ12 =>
        some (σ12, v11)))) : Option (St × Int32)) fun σ4 x5 =>
  some (x5, σ4)
noncomputable def m_lose (σ : St) (a1 : Int32) : Option (Int32 × St) :=
  B1 (m_isTrailer σ a1) fun v2 =>
  if v2 = 0 then
    (some ((-1), σ))
  else
    (B1 (rdA 12 σ 20 a1) fun v3 =>
    if v3 = 0 then
      (if (cI σ 34) = 60 then
        (some ((-2), σ))
      else
        (B1 (rdA 12 σ 19 a1) fun v5 =>
        B1 ((if v5 < 0 then
            (some σ)
          else
            (B1 (rdA 12 σ 19 a1) fun v9 =>
            B1 (wrA 6 σ 31 v9 (-9)) fun σ11 =>
            some σ11)) : Option (St)) fun σ8 =>
        B1 (wrA 12 σ8 19 a1 (-9)) fun σ13 =>
        B1 (wrA 12 σ13 18 a1 (-9)) fun σ15 =>
        B1 (wrA 12 σ15 20 a1 (vp_nar .boolean 1)) fun σ17 =>
        B1 (m_enter σ17 a1 2 (-9) (-9)) fun σ20 =>
        some (1, σ20)))
    else
      (some ((-4), σ)))
noncomputable def m_find (σ : St) (a1 : Int32) (a2 : Int32) : Option (Int32 × St) :=
  B1 (m_isTrailer σ a1) fun v2 =>
  if v2 = 0 then
    (some ((-1), σ))
  else
    (B1 (m_isYard a2) fun v4 =>
    if v4 = 0 then
      (some ((-1), σ))
    else
      (B1 (rdA 12 σ 20 a1) fun v5 =>
      if v5 = 0 then
        (some ((-4), σ))
      else
        (if (cI σ 34) = 60 then
          (some ((-2), σ))
        else
          (B1 (wrA 12 σ 20 a1 (vp_nar .boolean 0)) fun σ7 =>
          B1 (wrA 12 σ7 18 a1 a2) fun σ9 =>
          B1 (m_enter σ9 a1 0 a2 a2) fun σ12 =>
          some (1, σ12)))))
noncomputable def m_seal (σ : St) (a1 : Int32) (a2 : Int32) : Option (Int32 × St) :=
  B1 (m_isTrailer σ a1) fun v2 =>
  if v2 = 0 then
    (some ((-1), σ))
  else
    (B1 (m_in a2 3 5) fun v4 =>
    if v4 = 0 then
      (some ((-1), σ))
    else
      (B1 (rdA 12 σ 20 a1) fun v5 =>
      if v5 = 0 then
        (B1 (rdA 12 σ 26 a1) fun v7 =>
        B1 ((if a2 = 3 then
            (some 1)
          else
            (some 0)) : Option (Int32)) fun x10 =>
        if v7 = x10 then
          (some ((-4), σ))
        else
          (if (cI σ 34) = 60 then
            (some ((-2), σ))
          else
            (B1 ((if a2 = 5 then
                (some 0)
              else
                (some 1)) : Option (Int32)) fun x12 =>
            B1 (wrA 12 σ 26 a1 (vp_nar .boolean x12)) fun σ13 =>
            B1 (m_enter σ13 a1 a2 (-9) (-9)) fun σ16 =>
            some (1, σ16))))
      else
        (some ((-4), σ))))
noncomputable def m_book_L9 (σ : St) (a1 : Int32) (a2 : Int32) (x10 : Int32) (x11 : Int32) : Option ((Int32 × Int32) ⊕ (Int32)) :=
  if a2 ≤ x11 then
    (some (Sum.inr x10))
  else
    (if x10 < 0 then
      (some (Sum.inr x10))
    else
      (B1 (m_entryFrom σ a1 (x10 + 1)) fun v14 =>
      some (Sum.inl (v14, x11 + 1))))
noncomputable def m_book (σ : St) (a1 : Int32) (a2 : Int32) (a3 : Int32) : Option (Int32) :=
  B1 (m_isTrailer σ a1) fun v2 =>
  if v2 = 0 then
    (some (-1))
  else
    (B1 (m_in a3 0 2) fun v4 =>
    if v4 = 0 then
      (some (-1))
    else
      (B1 ((if 0 ≤ a2 then
          (B1 (m_entryFrom σ a1 0) fun v8 =>
          some v8)
        else
          (some (-9))) : Option (Int32)) fun x6 =>
      B1 (lq2 (m_book_L9 σ a1 a2) x6 0) fun x12 =>
      B1 ((if 0 ≤ x12 then
          (if a3 = 0 then
            (B1 (rdA 60 σ 36 x12) fun v21 =>
            some v21)
          else
            (if a3 = 1 then
              (B1 (rdA 60 σ 37 x12) fun v19 =>
              some v19)
            else
              (B1 (rdA 60 σ 38 x12) fun v17 =>
              some v17)))
        else
          (some (-9))) : Option (Int32)) fun x16 =>
      some x16))
noncomputable def m_where_L5 (σ : St) (a1 : Int32) (a2 : Int32) (x6 : Int32) (x7 : Int32) : Option ((Int32 × Int32) ⊕ (Int32)) :=
  if (cI σ 34) ≤ x7 then
    (some (Sum.inr x6))
  else
    (B1 (rdA 60 σ 35 x7) fun v9 =>
    B1 ((if v9 = a1 then
        (B1 (rdA 60 σ 37 x7) fun v13 =>
        if a2 < v13 then
          (some x6)
        else
          (B1 (rdA 60 σ 36 x7) fun v15 =>
          if 3 ≤ v15 then
            (some x6)
          else
            (B1 (rdA 60 σ 36 x7) fun v17 =>
            B1 ((if v17 = 0 then
                (B1 (rdA 60 σ 38 x7) fun v25 =>
                some v25)
              else
                (B1 (rdA 60 σ 36 x7) fun v21 =>
                if v21 = 1 then
                  (B1 (rdA 60 σ 38 x7) fun v23 =>
                  some (10 + v23))
                else
                  (some 20))) : Option (Int32)) fun x20 =>
            some x20)))
      else
        (some x6)) : Option (Int32)) fun x12 =>
    some (Sum.inl (x12, x7 + 1)))
noncomputable def m_where (σ : St) (a1 : Int32) (a2 : Int32) : Option (Int32) :=
  B1 (m_isTrailer σ a1) fun v2 =>
  if v2 = 0 then
    (some (-1))
  else
    (B1 (m_in a2 0 (cI σ 5)) fun v4 =>
    if v4 = 0 then
      (some (-1))
    else
      (B1 (lq2 (m_where_L5 σ a1 a2) (-9) 0) fun x8 =>
      some x8))
noncomputable def m_isDigit (a0 : Int32) : Option (Int32) :=
  B1 (m_in a0 48 57) fun v2 =>
  B1 (bZ v2) fun v4 =>
  some v4
noncomputable def m_reads_L21 (a1 : Int32) (v1 : Int32) (σ10 : St) (x22 : Int32) (x23 : Int32) (x24 : Int32) : Option ((Int32 × Int32 × Int32) ⊕ (Int32 × Int32 × Int32)) :=
  if v1 ≤ x22 then
    (some (Sum.inr (x22, x23, x24)))
  else
    (if 4 ≤ x23 then
      (some (Sum.inr (x22, x23, x24)))
    else
      (B1 (rdA 160 σ10 10 ((40 * a1) + x22)) fun v28 =>
      B1 (m_isDigit v28) fun v31 =>
      if v31 = 0 then
        (some (Sum.inr (x22, x23, x24)))
      else
        (B1 (rdA 160 σ10 10 ((40 * a1) + x22)) fun v32 =>
        some (Sum.inl (x22 + 1, x23 + 1, ((10 * x24) + v32) - 48)))))
noncomputable def m_reads_K18 (a1 : Int32) (v1 : Int32) (σ10 : St) (x19 : Int32) (x20 : Int32) : Option ((St × Int32) ⊕ ((St) ⊕ (Int32 × St))) :=
  B3 (lq3 (m_reads_L21 a1 v1 σ10) x19 0 0) fun x25 x26 x27 =>
  if x26 = 0 then
    (some (Sum.inr (Sum.inr (x25, σ10))))
  else
    (B1 (wrA 18 σ10 44 x20 x27) fun σ34 =>
    some (Sum.inl (σ34, x25)))
noncomputable def m_reads_K15 (a1 : Int32) (v1 : Int32) (σ10 : St) (x11 : Int32) (v13 : Int32)  : Option ((St × Int32) ⊕ ((St) ⊕ (Int32 × St))) :=
  B1 ((if v13 = 72 then
      (some 16)
    else
      (if v13 = 82 then
        (some 17)
      else
        (if v13 = 68 then
          (some 8)
        else
          (some 0)))) : Option (Int32)) fun x17 =>
  if 16 ≤ x17 then
    (m_reads_K18 a1 v1 σ10 (x11 + 1) x17)
  else
    (if (x11 + 1) = v1 then
      (some (Sum.inr (Sum.inr (x11 + 1, σ10))))
    else
      (B1 (rdA 160 σ10 10 ((40 * a1) + (x11 + 1))) fun v36 =>
      B1 (m_in v36 48 55) fun v39 =>
      if v39 = 0 then
        (some (Sum.inr (Sum.inr (x11 + 1, σ10))))
      else
        (B1 (rdA 160 σ10 10 ((40 * a1) + (x11 + 1))) fun v40 =>
        m_reads_K18 a1 v1 σ10 ((x11 + 1) + 1) (x17 + (v40 - 48)))))
noncomputable def m_reads_L9 (a1 : Int32) (v1 : Int32) (σ10 : St) (x11 : Int32) : Option ((St × Int32) ⊕ ((St) ⊕ (Int32 × St))) :=
  if v1 ≤ x11 then
    (some (Sum.inr (Sum.inl σ10)))
  else
    (B1 (rdA 160 σ10 10 ((40 * a1) + x11)) fun v13 =>
    if v13 = 32 then
      (some (Sum.inl (σ10, x11 + 1)))
    else
      (if v13 = 70 then
        (m_reads_K15 a1 v1 σ10 x11 v13)
      else
        (if v13 = 68 then
          (m_reads_K15 a1 v1 σ10 x11 v13)
        else
          (if v13 = 72 then
            (m_reads_K15 a1 v1 σ10 x11 v13)
          else
            (if v13 = 82 then
              (m_reads_K15 a1 v1 σ10 x11 v13)
            else
              (some (Sum.inr (Sum.inr ((x11 + 1) - 1, σ10)))))))))
noncomputable def m_reads_L3  (σ4 : St) (x5 : Int32) : Option ((St × Int32) ⊕ (St)) :=
  if 18 ≤ x5 then
    (some (Sum.inr σ4))
  else
    (B1 (wrA 18 σ4 44 x5 (-9)) fun σ7 =>
    some (Sum.inl (σ7, x5 + 1)))
noncomputable def m_reads (σ : St) (a1 : Int32) : Option (Int32 × St) :=
  B1 (rdA 4 σ 9 a1) fun v1 =>
  B1 (lq2 (m_reads_L3) σ 0) fun σ6 =>
  BR1 (lq2 (m_reads_L9 a1 v1) σ6 0) (fun σ12 =>
  some ((-9), σ12)) (fun r => some r)
noncomputable def m_fault (σ : St) (a1 : Int32) : Option (Int32 × St) :=
  B2 (m_askedText σ a1) fun v2 σ3 =>
  B2 ((if 0 ≤ v2 then
      (B2 (m_reads σ3 a1) fun v8 σ9 =>
      some (σ9, v8))
    else
      (some (σ3, v2))) : Option (St × Int32)) fun σ5 x6 =>
  some (x6, σ5)
noncomputable def m_isDay (a0 : Int32) : Option (Int32) :=
  B1 (m_in a0 0 69) fun v2 =>
  B1 (bZ v2) fun v4 =>
  some v4
noncomputable def m_terms_L16  (σ17 : St) (x18 : Int32) : Option ((St × Int32) ⊕ (St)) :=
  if 18 ≤ x18 then
    (some (Sum.inr σ17))
  else
    (B1 (rdA 18 σ17 44 x18) fun v20 =>
    B1 (wrA 360 σ17 43 ((18 * (cI σ17 40)) + x18) v20) fun σ22 =>
    some (Sum.inl (σ22, x18 + 1)))
noncomputable def m_terms (σ : St) (a1 : Int32) (a2 : Int32) : Option (Int32 × St) :=
  B1 (m_isText a1) fun v2 =>
  if v2 = 0 then
    (some ((-1), σ))
  else
    (B1 (m_isDay a2) fun v4 =>
    if v4 = 0 then
      (some ((-1), σ))
    else
      (if (cI σ 40) = 20 then
        (some ((-2), σ))
      else
        (B1 (rdA 4 σ 9 a1) fun v5 =>
        if 0 ≤ v5 then
          (B2 (m_reads σ a1) fun v8 σ9 =>
          if v8 = (-9) then
            (B1 (m_day (cI σ9 5)) fun v11 =>
            B1 (wrA 20 σ9 41 (cI σ9 40) v11) fun σ12 =>
            B1 (wrA 20 σ12 42 (cI σ12 40) a2) fun σ14 =>
            B1 (lq2 (m_terms_L16) σ14 0) fun σ19 =>
            some ((cI (sI σ19 40 ((cI σ19 40) + 1)) 40) - 1, sI σ19 40 ((cI σ19 40) + 1)))
          else
            (some ((-4), σ9)))
        else
          (B2 (m_meets σ 1) fun v25 σ26 =>
          some (v25, σ26)))))
noncomputable def m_force (σ : St) (a1 : Int32) (a2 : Int32) (a3 : Int32) (a4 : Int32) : Option (Int32) :=
  B1 (m_in a1 0 3) fun v2 =>
  if v2 = 0 then
    (some (-1))
  else
    (if 2 ≤ a1 then
      (B1 (m_isDay a3) fun v4 =>
      if v4 = 0 then
        (some (-1))
      else
        (B1 (m_isDay a4) fun v6 =>
        if v6 = 0 then
          (some (-1))
        else
          (B1 (m_inForce σ a1 a2 a3 a4) fun v8 =>
          some v8)))
    else
      (B1 (m_isYard a2) fun v10 =>
      if v10 = 0 then
        (some (-1))
      else
        (B1 (m_isDay a3) fun v12 =>
        if v12 = 0 then
          (some (-1))
        else
          (B1 (m_isDay a4) fun v14 =>
          if v14 = 0 then
            (some (-1))
          else
            (B1 (m_inForce σ a1 a2 a3 a4) fun v16 =>
            some v16)))))
noncomputable def m_detention_L16 (a1 : Int32) (σ4 : St) (x6 : Int32) (x17 : Int32) (x18 : Int32) : Option ((Int32 × Int32) ⊕ (Int32)) :=
  if x18 ≤ x6 then
    (some (Sum.inr x17))
  else
    (B1 (rdA 60 σ4 35 x18) fun v20 =>
    B1 ((if v20 = a1 then
        (B1 (rdA 60 σ4 36 x18) fun v24 =>
        if v24 = 1 then
          (B1 (rdA 60 σ4 37 x18) fun v26 =>
          some v26)
        else
          (B1 (rdA 60 σ4 36 x18) fun v28 =>
          if v28 = 2 then
            (B1 (rdA 60 σ4 37 x18) fun v30 =>
            some v30)
          else
            (some x17)))
      else
        (some x17)) : Option (Int32)) fun x23 =>
    some (Sum.inl (x23, x18 + (-1))))
noncomputable def m_detention_L3 (a1 : Int32) (σ4 : St) (x5 : Int32) (x6 : Int32) : Option ((St × Int32 × Int32) ⊕ (St × Int32)) :=
  if (cI σ4 34) ≤ x6 then
    (some (Sum.inr (σ4, x5)))
  else
    (B1 (rdA 60 σ4 35 x6) fun v9 =>
    B2 ((if v9 = a1 then
        (B1 (rdA 60 σ4 36 x6) fun v14 =>
        if v14 = 0 then
          (B1 (lq2 (m_detention_L16 a1 σ4 x6) (cI σ4 5) ((cI σ4 34) - 1)) fun x19 =>
          B1 (rdA 60 σ4 37 x6) fun v32 =>
          B1 (m_day v32) fun v35 =>
          B1 (rdA 60 σ4 37 x6) fun v36 =>
          B1 (rdA 60 σ4 38 x6) fun v38 =>
          B1 (m_inForce σ4 0 v38 v35 v35) fun v41 =>
          if ((x19 - v36) - v41) ≤ 0 then
            (some (σ4, x5))
          else
            (B1 (rdA 60 σ4 38 x6) fun v42 =>
            B1 (m_inForce σ4 1 v42 v35 v35) fun v45 =>
            some (sJ σ4 45 ((cJ σ4 45) + ((((((x19 - v36) - v41) + 59) / 60).toInt64) * v45.toInt64)), x5 + 1)))
        else
          (some (σ4, x5)))
      else
        (some (σ4, x5))) : Option (St × Int32)) fun σ12 x13 =>
    some (Sum.inl (σ12, x13, x6 + 1)))
noncomputable def m_detention (σ : St) (a1 : Int32) : Option (Int32 × St) :=
  B1 (m_isTrailer σ a1) fun v2 =>
  if v2 = 0 then
    (some ((-1), σ))
  else
    (B2 (lq3 (m_detention_L3 a1) (sJ σ 45 0) 0 0) fun σ7 x8 =>
    some (x8, σ7))
noncomputable def m_pence (σ : St)  : Option (Int64) :=
  some (cJ σ 45)
noncomputable def m_law (σ : St) (a1 : Int32) (a2 : Int32) : Option (Int32 × St) :=
  B1 (m_isWorth a1) fun v2 =>
  if v2 = 0 then
    (some ((-1), σ))
  else
    (B1 (m_isWorth a2) fun v4 =>
    if v4 = 0 then
      (some ((-1), σ))
    else
      (some (1, sI (sI σ 46 a1) 47 a2)))
noncomputable def m_load (σ : St) (a1 : Int32) (a2 : Int32) (a3 : Int32) : Option (Int32 × St) :=
  B1 (m_isTrailer σ a1) fun v2 =>
  if v2 = 0 then
    (some ((-1), σ))
  else
    (B1 (m_in a2 1 20000) fun v4 =>
    if v4 = 0 then
      (some ((-1), σ))
    else
      (B1 (m_in a3 0 130) fun v6 =>
      if v6 = 0 then
        (some ((-1), σ))
      else
        (B1 (rdA 12 σ 23 a1) fun v7 =>
        if v7 = 6 then
          (some ((-2), σ))
        else
          (B1 (rdA 12 σ 23 a1) fun v9 =>
          B1 (wrA 72 σ 24 ((6 * a1) + v9) a2) fun σ11 =>
          B1 (rdA 12 σ11 23 a1) fun v13 =>
          B1 (wrA 72 σ11 25 ((6 * a1) + v13) a3) fun σ15 =>
          B1 (rdA 12 σ15 23 a1) fun v17 =>
          B1 (wrA 12 σ15 23 a1 (v17 + 1)) fun σ19 =>
          B1 (rdA 12 σ19 23 a1) fun v21 =>
          some (v21, σ19)))))
noncomputable def m_unload (σ : St) (a1 : Int32) : Option (Int32 × St) :=
  B1 (m_isTrailer σ a1) fun v2 =>
  if v2 = 0 then
    (some ((-1), σ))
  else
    (B1 (rdA 12 σ 23 a1) fun v3 =>
    B1 (wrA 12 σ 23 a1 0) fun σ5 =>
    some (v3, σ5))
noncomputable def m_isAxle (a0 : Int32) : Option (Int32) :=
  B1 (m_in a0 60 120) fun v2 =>
  B1 (bZ v2) fun v4 =>
  some v4
noncomputable def m_slide (σ : St) (a1 : Int32) (a2 : Int32) : Option (Int32 × St) :=
  B1 (m_isTrailer σ a1) fun v2 =>
  if v2 = 0 then
    (some ((-1), σ))
  else
    (B1 (m_isAxle a2) fun v4 =>
    if v4 = 0 then
      (some ((-1), σ))
    else
      (B1 (rdA 12 σ 22 a1) fun v5 =>
      B1 (wrA 12 σ 22 a1 a2) fun σ7 =>
      some (v5, σ7)))
noncomputable def m_sumOf_L1 (σ : St) (a1 : Int32) (a2 : Int32) (x2 : Int64) (x3 : Int32) : Option ((Int64 × Int32) ⊕ (Int64)) :=
  B1 (rdA 12 σ 23 a1) fun v5 =>
  if v5 ≤ x3 then
    (some (Sum.inr x2))
  else
    (B1 ((if a2 = 0 then
        (B1 (rdA 72 σ 24 ((6 * a1) + x3)) fun v9 =>
        some v9.toInt64)
      else
        (B1 (rdA 72 σ 24 ((6 * a1) + x3)) fun v11 =>
        B1 (rdA 72 σ 25 ((6 * a1) + x3)) fun v13 =>
        some (v11.toInt64 * v13.toInt64))) : Option (Int64)) fun x8 =>
    some (Sum.inl (x2 + x8, x3 + 1)))
noncomputable def m_sumOf (σ : St) (a1 : Int32) (a2 : Int32) : Option (Int64) :=
  B1 (lq2 (m_sumOf_L1 σ a1 a2) 0 0) fun x4 =>
  some x4
noncomputable def m_liesOn (σ : St) (a1 : Int32) (a2 : Int32) (a3 : Int32) : Option (Int64) :=
  B1 ((if a3 = 0 then
      (B1 (m_sumOf σ a1 1) fun v4 =>
      some v4)
    else
      (B1 (m_sumOf σ a1 0) fun v6 =>
      B1 (m_sumOf σ a1 1) fun v8 =>
      some ((v6 * a2.toInt64) - v8))) : Option (Int64)) fun x2 =>
  some x2
noncomputable def m_weight (σ : St) (a1 : Int32) (a2 : Int32) : Option (Int32 × St) :=
  B1 (m_isTrailer σ a1) fun v2 =>
  B2 ((if v2 = 0 then
      (some (σ, (-1)))
    else
      (B1 (rdA 12 σ 22 a1) fun v6 =>
      B1 (m_liesOn σ a1 v6 a2) fun v9 =>
      B1 (rdA 12 σ 22 a1) fun v10 =>
      B2 (m_share σ v9 v10.toInt64) fun v13 σ14 =>
      some (σ14, v13))) : Option (St × Int32)) fun σ4 x5 =>
  some (x5, σ4)
noncomputable def m_isLawful (σ : St) (a1 : Int32) (a2 : Int32) : Option (Int32) :=
  B1 (m_liesOn σ a1 a2 1) fun v2 =>
  B1 (m_liesOn σ a1 a2 0) fun v4 =>
  B1 ((if 0 < (lg_cmp v4 (((cI σ 46).toInt64) * a2.toInt64)) then
      (some 0)
    else
      (if (lg_cmp v2 0) < 0 then
        (some 0)
      else
        (if 0 < (lg_cmp v2 (((cI σ 47).toInt64) * a2.toInt64)) then
          (some 0)
        else
          (some 1)))) : Option (Int32)) fun x6 =>
  B1 (bZ x6) fun v8 =>
  some v8
noncomputable def m_lawful (σ : St) (a1 : Int32) : Option (Int32) :=
  B1 (m_isTrailer σ a1) fun v2 =>
  B1 ((if v2 = 0 then
      (some (-1))
    else
      (B1 (rdA 12 σ 22 a1) fun v5 =>
      B1 (m_isLawful σ a1 v5) fun v8 =>
      if v8 = 0 then
        (some 0)
      else
        (some 1))) : Option (Int32)) fun x4 =>
  some x4
noncomputable def m_shift_K10 (σ : St) (a1 : Int32) (x4 : Int32)  : Option ((Int32) ⊕ ((Unit) ⊕ (Int32))) :=
  B1 (rdA 12 σ 22 a1) fun v11 =>
  B1 (m_isAxle (v11 + x4)) fun v14 =>
  if v14 = 0 then
    (some (Sum.inl (x4 + 1)))
  else
    (B1 (rdA 12 σ 22 a1) fun v15 =>
    B1 (m_isLawful σ a1 (v15 + x4)) fun v18 =>
    if v18 = 0 then
      (some (Sum.inl (x4 + 1)))
    else
      (B1 (rdA 12 σ 22 a1) fun v19 =>
      some (Sum.inr (Sum.inr (v19 + x4)))))
noncomputable def m_shift_L3 (σ : St) (a1 : Int32) (x4 : Int32) : Option ((Int32) ⊕ ((Unit) ⊕ (Int32))) :=
  if 60 < x4 then
    (some (Sum.inr (Sum.inl ())))
  else
    (B1 (rdA 12 σ 22 a1) fun v6 =>
    B1 (m_isAxle (v6 - x4)) fun v9 =>
    if v9 = 0 then
      (m_shift_K10 σ a1 x4)
    else
      (B1 (rdA 12 σ 22 a1) fun v21 =>
      B1 (m_isLawful σ a1 (v21 - x4)) fun v24 =>
      if v24 = 0 then
        (m_shift_K10 σ a1 x4)
      else
        (B1 (rdA 12 σ 22 a1) fun v25 =>
        some (Sum.inr (Sum.inr (v25 - x4))))))
noncomputable def m_shift (σ : St) (a1 : Int32) : Option (Int32) :=
  B1 (m_isTrailer σ a1) fun v2 =>
  if v2 = 0 then
    (some (-1))
  else
    (BR1 (lq1 (m_shift_L3 σ a1) 0) (fun u5 =>
    some (-9)) (fun r => some r))
noncomputable def m_cold_L15 (a1 : Int32) (a2 : Int32) (σ13 : St) (x16 : Int32) (x17 : Int32) (x18 : Int32) (x19 : Int32) (x20 : Int32) : Option ((Int32 × Int32 × Int32 × Int32 × Int32) ⊕ (Int32 × Int32 × Int32)) :=
  B1 (rdA 6 σ13 6 a2) fun v24 =>
  if v24 ≤ x20 then
    (some (Sum.inr (x16, x17, x19)))
  else
    (B1 (rdA 240 σ13 7 ((40 * a2) + x20)) fun v26 =>
    B1 ((if v26 = (-999) then
        (some 1)
      else
        (some 0)) : Option (Int32)) fun x29 =>
    B1 ((if x29 = 0 then
        (B1 (rdA 12 σ13 27 a1) fun v32 =>
        if v26 ≤ v32 then
          (some 0)
        else
          (some 1))
      else
        (some 0)) : Option (Int32)) fun x31 =>
    B1 ((if x31 = 0 then
        (some 0)
      else
        (some 1)) : Option (Int32)) fun x35 =>
    B1 ((if x31 = 0 then
        (if x29 = 0 then
          (some 0)
        else
          (some 1))
      else
        (some 1)) : Option (Int32)) fun x37 =>
    B1 ((if x31 = 0 then
        (if x29 = 0 then
          (some 0)
        else
          (some (x18 + 1)))
      else
        (some (x18 + 1))) : Option (Int32)) fun x39 =>
    B1 ((if x39 ≤ x19 then
        (some x19)
      else
        (some x39)) : Option (Int32)) fun x41 =>
    some (Sum.inl (x16 + x35, x17 + x37, x39, x41, x20 + 1)))
noncomputable def m_cold (σ : St) (a1 : Int32) (a2 : Int32) (a3 : Int32) : Option (Int32 × St) :=
  B1 (m_isTrailer σ a1) fun v2 =>
  if v2 = 0 then
    (some ((-1), σ))
  else
    (B1 (m_isRow a2) fun v4 =>
    if v4 = 0 then
      (some ((-1), σ))
    else
      (B1 (m_in a3 0 2) fun v6 =>
      if v6 = 0 then
        (some ((-1), σ))
      else
        (B1 (m_isCold σ a1) fun v8 =>
        if v8 = 0 then
          (B2 (m_meets σ 3) fun v48 σ49 =>
          some (v48, σ49))
        else
          (B1 (rdA 6 σ 6 a2) fun v9 =>
          if 0 ≤ v9 then
            (B1 (rdA 12 σ 28 a1) fun v11 =>
            B1 (wrA 12 σ 28 a1 (v11 + 1)) fun σ13 =>
            B3 (lq5 (m_cold_L15 a1 a2 σ13) 0 0 0 0 0) fun x21 x22 x23 =>
            B1 ((if a3 = 0 then
                (some x21)
              else
                (if a3 = 1 then
                  (some x22)
                else
                  (some x23))) : Option (Int32)) fun x43 =>
            some (10 * x43, σ13))
          else
            (B2 (m_meets σ 1) fun v45 σ46 =>
            some (v45, σ46))))))
noncomputable def m_mean_L4 (a1 : Int32) (σ3 : St) (x5 : Int32) (x6 : Int64) (x7 : Int32) : Option ((Int32 × Int64 × Int32) ⊕ (Int32 × Int64)) :=
  B1 (rdA 6 σ3 6 a1) fun v10 =>
  if v10 ≤ x7 then
    (some (Sum.inr (x5, x6)))
  else
    (B1 (rdA 240 σ3 7 ((40 * a1) + x7)) fun v12 =>
    B1 ((if v12 = (-999) then
        (some 0)
      else
        (some 1)) : Option (Int32)) fun x15 =>
    B1 ((if v12 = (-999) then
        (some 0)
      else
        (some v12.toInt64)) : Option (Int64)) fun x17 =>
    some (Sum.inl (x5 + x15, x6 + x17, x7 + 1)))
noncomputable def m_mean (σ : St) (a1 : Int32) : Option (Int32 × St) :=
  B2 (m_askedRow σ a1) fun v2 σ3 =>
  if 0 ≤ v2 then
    (B2 (lq3 (m_mean_L4 a1 σ3) 0 0 0) fun x8 x9 =>
    B2 ((if x8 = 0 then
        (B2 (m_meets σ3 4) fun v27 σ28 =>
        some (σ28, v27))
      else
        (B1 (nzL x8.toInt64) fun v22 =>
        B2 (m_ask σ3 ((x9 / x8.toInt64).toInt32) 1) fun v24 σ25 =>
        some (σ25, v24))) : Option (St × Int32)) fun σ19 x20 =>
    some (x20, σ19))
  else
    (some (v2, σ3))
noncomputable def m_findTheft_L11 (a1 : Int32) (σ12 : St) (x13 : Int32) : Option ((St × Int32) ⊕ (St)) :=
  if (cI σ12 49) ≤ x13 then
    (some (Sum.inr σ12))
  else
    (B1 (rdA 60 σ12 35 x13) fun v15 =>
    B1 ((if v15 = a1 then
        (B1 (rdA 60 σ12 36 x13) fun v19 =>
        if v19 = 3 then
          (some x13)
        else
          (B1 (rdA 60 σ12 36 x13) fun v21 =>
          if v21 = 4 then
            (some x13)
          else
            (some (cI σ12 48))))
      else
        (some (cI σ12 48))) : Option (Int32)) fun x18 =>
    some (Sum.inl (sI σ12 48 x18, x13 + 1)))
noncomputable def m_findTheft_L1 (a1 : Int32) (σ2 : St) (x3 : Int32) : Option ((St × Int32) ⊕ (St)) :=
  if (cI σ2 34) ≤ x3 then
    (some (Sum.inr σ2))
  else
    (B1 (rdA 60 σ2 35 x3) fun v5 =>
    B1 ((if v5 = a1 then
        (B1 (rdA 60 σ2 36 x3) fun v9 =>
        if v9 = 5 then
          (some x3)
        else
          (some (cI σ2 49)))
      else
        (some (cI σ2 49))) : Option (Int32)) fun x8 =>
    some (Sum.inl (sI σ2 49 x8, x3 + 1)))
noncomputable def m_findTheft (σ : St) (a1 : Int32) : Option (Int32 × St) :=
  B1 (lq2 (m_findTheft_L1 a1) (sI (sI σ 48 (-9)) 49 (-9)) 0) fun σ4 =>
  B1 (lq2 (m_findTheft_L11 a1) σ4 0) fun σ14 =>
  B1 ((if (cI σ14 49) < 0 then
      (some 0)
    else
      (some 1)) : Option (Int32)) fun x24 =>
  B1 (bZ x24) fun v26 =>
  some (v26, σ14)
noncomputable def m_theft (σ : St) (a1 : Int32) : Option (Int32 × St) :=
  B1 (m_isTrailer σ a1) fun v2 =>
  if v2 = 0 then
    (some ((-1), σ))
  else
    (B2 (m_findTheft σ a1) fun v4 σ5 =>
    B2 ((if v4 = 0 then
        (some (σ5, (-4)))
      else
        (B1 (rdA 60 σ5 37 (cI σ5 48)) fun v9 =>
        B1 (rdA 60 σ5 37 (cI σ5 49)) fun v11 =>
        B1 (rdA 60 σ5 37 (cI σ5 48)) fun v13 =>
        B2 (m_ask σ5 v9 (v11 - v13)) fun v16 σ17 =>
        some (σ17, v16))) : Option (St × Int32)) fun σ7 x8 =>
    some (x8, σ7))
noncomputable def m_bits_L1 (a0 : Int32) (x2 : Int32) (x3 : Int32) : Option ((Int32 × Int32) ⊕ (Int32)) :=
  if 14 ≤ x3 then
    (some (Sum.inr x2))
  else
    (some (Sum.inl (x2 + ((a0 >>> (x3 &&& 31)) &&& 1), x3 + 1)))
noncomputable def m_bits (a0 : Int32) : Option (Int32) :=
  B1 (lq2 (m_bits_L1 a0) 0 0) fun x4 =>
  some x4
noncomputable def m_hands_L6 (a1 : Int32) (σ5 : St) (x7 : Int32) (x8 : Int32) : Option ((Int32 × Int32) ⊕ (Int32)) :=
  if (cI σ5 49) ≤ x8 then
    (some (Sum.inr x7))
  else
    (B1 (rdA 60 σ5 35 x8) fun v10 =>
    B1 ((if v10 = a1 then
        (B1 (rdA 60 σ5 36 x8) fun v14 =>
        if 2 ≤ v14 then
          (some x7)
        else
          (B1 (rdA 60 σ5 38 x8) fun v16 =>
          B1 (rdA 60 σ5 36 x8) fun v18 =>
          B1 ((if (cI σ5 48) ≤ x8 then
              (some (x7 ||| (1 <<< ((v16 + (8 * v18)) &&& 31))))
            else
              (some (1 <<< ((v16 + (8 * v18)) &&& 31)))) : Option (Int32)) fun x21 =>
          some x21))
      else
        (some x7)) : Option (Int32)) fun x13 =>
    some (Sum.inl (x13, x8 + 1)))
noncomputable def m_hands (σ : St) (a1 : Int32) : Option (Int32 × St) :=
  B1 (m_isTrailer σ a1) fun v2 =>
  if v2 = 0 then
    (some ((-1), σ))
  else
    (B2 (m_findTheft σ a1) fun v4 σ5 =>
    if v4 = 0 then
      (some ((-4), σ5))
    else
      (B1 (lq2 (m_hands_L6 a1 σ5) 0 0) fun x9 =>
      B1 (m_bits x9) fun v23 =>
      B2 (m_ask σ5 x9 v23) fun v25 σ26 =>
      some (v25, σ26)))
noncomputable def m_swapsAt (σ : St) (a1 : Int32) (a2 : Int32) (a3 : Int32) (a4 : Int32) (a5 : Int32) (a6 : Int32) : Option (Int32 × St) :=
  B1 (rdA 6 σ 29 a1) fun v1 =>
  B2 (m_comesTo σ v1 (cI σ 5) a5) fun v4 σ5 =>
  B1 (rdA 6 σ5 29 a2) fun v6 =>
  B2 (m_comesTo σ5 v6 (cI σ5 5) a5) fun v9 σ10 =>
  if v4 = 100000000 then
    (some (0, σ10))
  else
    (if v9 = 100000000 then
      (some (0, σ10))
    else
      (B1 ((if (v4 + a6) ≤ v9 then
          (some v9)
        else
          (some (v4 + a6))) : Option (Int32)) fun x12 =>
      B2 (m_comesTo σ10 a5 (x12 + 10) a3) fun v14 σ15 =>
      B2 (m_comesTo (sI σ15 52 v14) a5 (x12 + 10) a4) fun v17 σ18 =>
      B1 ((if (cI (sI σ18 53 v17) 52) ≤ (cI (sI σ18 53 v17) 53) then
          (some (cI (sI σ18 53 v17) 53))
        else
          (some (cI (sI σ18 53 v17) 52))) : Option (Int32)) fun x20 =>
      B1 ((if 100000000 ≤ (cI (sI (sI (sI σ18 53 v17) 50 x20) 51 ((cI (sI (sI σ18 53 v17) 50 x20) 52) + (cI (sI (sI σ18 53 v17) 50 x20) 53))) 50) then
          (some 0)
        else
          (some 1)) : Option (Int32)) fun x22 =>
      B1 (bZ x22) fun v24 =>
      some (v24, sI (sI (sI σ18 53 v17) 50 x20) 51 ((cI (sI (sI σ18 53 v17) 50 x20) 52) + (cI (sI (sI σ18 53 v17) 50 x20) 53)))))
noncomputable def m_maySwap (σ : St) (a1 : Int32) : Option (Int32) :=
  B1 (m_isOnWay σ a1) fun v2 =>
  B1 ((if v2 = 0 then
      (B1 (rdA 6 σ 31 a1) fun v5 =>
      if v5 < 0 then
        (some 0)
      else
        (some 1))
    else
      (some 0)) : Option (Int32)) fun x4 =>
  B1 (bZ x4) fun v8 =>
  some v8
noncomputable def m_bestSwap_K15 (x5 : Int32) (σ10 : St)  : Option (St × Int32 × Int32) :=
  some (sI σ10 54 (cI σ10 50), x5, cI (sI σ10 54 (cI σ10 50)) 51)
noncomputable def m_bestSwap_L1 (a1 : Int32) (a2 : Int32) (a3 : Int32) (a4 : Int32) (σ2 : St) (x3 : Int32) (x4 : Int32) (x5 : Int32) : Option ((St × Int32 × Int32 × Int32) ⊕ (St × Int32)) :=
  if 8 ≤ x5 then
    (some (Sum.inr (σ2, x3)))
  else
    (B2 (m_swapsAt σ2 a1 a2 a3 a4 x5 0) fun v9 σ10 =>
    B3 ((if v9 = 0 then
        (some (σ10, x3, x4))
      else
        (if x3 < 0 then
          (m_bestSwap_K15 x5 σ10)
        else
          (if (cI σ10 50) < (cI σ10 54) then
            (m_bestSwap_K15 x5 σ10)
          else
            (if (cI σ10 50) = (cI σ10 54) then
              (if x4 ≤ (cI σ10 51) then
                (some (σ10, x3, x4))
              else
                (m_bestSwap_K15 x5 σ10))
            else
              (some (σ10, x3, x4)))))) : Option (St × Int32 × Int32)) fun σ12 x13 x14 =>
    some (Sum.inl (σ12, x13, x14, x5 + 1)))
noncomputable def m_bestSwap (σ : St) (a1 : Int32) (a2 : Int32) (a3 : Int32) (a4 : Int32) : Option (Int32 × St) :=
  B2 (lq4 (m_bestSwap_L1 a1 a2 a3 a4) σ (-9) 0 0) fun σ6 x7 =>
  some (x7, σ6)
noncomputable def m_swap (σ : St) (a1 : Int32) (a2 : Int32) (a3 : Int32) (a4 : Int32) : Option (Int32 × St) :=
  B1 (m_isTractor a1) fun v2 =>
  if v2 = 0 then
    (some ((-1), σ))
  else
    (B1 (m_isTractor a2) fun v4 =>
    if v4 = 0 then
      (some ((-1), σ))
    else
      (if a1 = a2 then
        (some ((-1), σ))
      else
        (B1 (m_isYard a3) fun v6 =>
        if v6 = 0 then
          (some ((-1), σ))
        else
          (B1 (m_isYard a4) fun v8 =>
          if v8 = 0 then
            (some ((-1), σ))
          else
            (B1 (m_maySwap σ a1) fun v10 =>
            if v10 = 0 then
              (some ((-4), σ))
            else
              (B1 (m_maySwap σ a2) fun v12 =>
              if v12 = 0 then
                (some ((-4), σ))
              else
                (B2 (m_bestSwap σ a1 a2 a3 a4) fun v14 σ15 =>
                B2 ((if 0 ≤ v14 then
                    (B2 (m_ask σ15 (cI σ15 54) v14) fun v20 σ21 =>
                    some (σ21, v20))
                  else
                    (B2 (m_meets σ15 1) fun v23 σ24 =>
                    some (σ24, v23))) : Option (St × Int32)) fun σ17 x18 =>
                some (x18, σ17))))))))
noncomputable def m_pairEnd (σ : St) (a1 : Int32) (a2 : Int32) (a3 : Int32) : Option (Int32 × St) :=
  B1 (rdA 240 σ 7 ((40 * a1) + a2)) fun v1 =>
  B1 (rdA 240 σ 7 ((40 * a1) + a3)) fun v3 =>
  B2 (m_bestSwap σ a2 a3 v1 v3) fun v6 σ7 =>
  B1 ((if 0 ≤ v6 then
      (some (cI σ7 54))
    else
      (some 100000000)) : Option (Int32)) fun x9 =>
  some (x9, σ7)
noncomputable def m_partWays_L16 (x9 : Int32) (x17 : Int32) : Option ((Int32) ⊕ (Int32)) :=
  if ((x9 >>> (x17 &&& 31)) &&& 1) = 0 then
    (some (Sum.inl (x17 + 1)))
  else
    (some (Sum.inr x17))
noncomputable def m_partWays_L7 (a2 : Int32) (a3 : Int32) (σ8 : St) (x9 : Int32) (x10 : Int32) (x11 : Int32) : Option ((St × Int32 × Int32 × Int32) ⊕ ((St × Int32) ⊕ (Int32 × St))) :=
  if 3 ≤ x11 then
    (some (Sum.inr (Sum.inl (σ8, x10))))
  else
    (B1 ((if x11 = 0 then
        (some (a3 / 36))
      else
        (if x11 = 1 then
          (some ((a3 / 6) - (a3 / 6) / 6 * 6))
        else
          (some (a3 - a3 / 6 * 6)))) : Option (Int32)) fun x15 =>
    if x9 = 0 then
      (if x15 ≤ 0 then
        (some (Sum.inl (σ8, x9, x10, x11 + 1)))
      else
        (some (Sum.inr (Sum.inr (100000000, σ8)))))
    else
      (B1 (lq1 (m_partWays_L16 x9) 0) fun x18 =>
      if x15 = x18 then
        (some (Sum.inr (Sum.inr (100000000, σ8))))
      else
        (if ((x9 >>> (x15 &&& 31)) &&& 1) = 0 then
          (some (Sum.inr (Sum.inr (100000000, σ8))))
        else
          (B1 (wrA 6 σ8 56 x18 x15) fun σ19 =>
          B1 (wrA 6 σ19 56 x15 x18) fun σ21 =>
          B2 (m_pairEnd σ21 a2 x18 x15) fun v24 σ25 =>
          B1 ((if v24 ≤ x10 then
              (some x10)
            else
              (some v24)) : Option (Int32)) fun x27 =>
          some (Sum.inl (σ25, x9 &&& (((1 <<< (x18 &&& 31)) ||| (1 <<< (x15 &&& 31))) ^^^ (-1)), x27, x11 + 1))))))
noncomputable def m_partWays_L1  (σ2 : St) (x3 : Int32) : Option ((St × Int32) ⊕ (St)) :=
  if 6 ≤ x3 then
    (some (Sum.inr σ2))
  else
    (B1 (wrA 6 σ2 56 x3 (-9)) fun σ5 =>
    some (Sum.inl (σ5, x3 + 1)))
noncomputable def m_partWays (σ : St) (a1 : Int32) (a2 : Int32) (a3 : Int32) : Option (Int32 × St) :=
  B1 (lq2 (m_partWays_L1) σ 0) fun σ4 =>
  BR2 (lq4 (m_partWays_L7 a2 a3) σ4 a1 0 0) (fun σ12 x13 =>
  some (x13, σ12)) (fun r => some r)
noncomputable def m_pairs_L39  (σ40 : St) (x41 : Int32) : Option ((St × Int32) ⊕ (St)) :=
  if 6 ≤ x41 then
    (some (Sum.inr σ40))
  else
    (B1 (rdA 6 σ40 56 x41) fun v43 =>
    B1 (wrA 6 σ40 57 x41 v43) fun σ45 =>
    some (Sum.inl (σ45, x41 + 1)))
noncomputable def m_pairs_L47  (σ48 : St) (x49 : Int32) : Option ((St × Int32) ⊕ (St)) :=
  if 6 ≤ x49 then
    (some (Sum.inr σ48))
  else
    (B1 (rdA 6 σ48 57 x49) fun v51 =>
    B1 (wrA 6 σ48 55 x49 v51) fun σ53 =>
    some (Sum.inl (σ53, x49 + 1)))
noncomputable def m_pairs_L27 (a1 : Int32) (a2 : Int32) (σ28 : St) (x29 : Int32) (x30 : Int32) : Option ((St × Int32 × Int32) ⊕ (St × Int32)) :=
  if 216 ≤ x30 then
    (some (Sum.inr (σ28, x29)))
  else
    (B2 (m_partWays σ28 a1 a2 x30) fun v34 σ35 =>
    B2 ((if x29 ≤ v34 then
        (some (σ35, x29))
      else
        (B1 (lq2 (m_pairs_L39) σ35 0) fun σ42 =>
        some (σ42, v34))) : Option (St × Int32)) fun σ37 x38 =>
    some (Sum.inl (σ37, x38, x30 + 1)))
noncomputable def m_pairs_L11 (σ : St) (a1 : Int32) (a2 : Int32) (x12 : Int32) (x13 : Int32) (x14 : Int32) : Option ((Int32 × Int32 × Int32) ⊕ (Int32 × Int32)) :=
  if 6 ≤ x14 then
    (some (Sum.inr (x12, x13)))
  else
    (B1 ((if x12 = 0 then
        (some 0)
      else
        (B1 (rdA 240 σ 7 ((40 * a2) + x14)) fun v19 =>
        B1 (m_isYard v19) fun v22 =>
        if v22 = 0 then
          (some 0)
        else
          (some 1))) : Option (Int32)) fun x18 =>
    B1 ((if x13 = 0 then
        (some 0)
      else
        (if ((a1 >>> (x14 &&& 31)) &&& 1) = 0 then
          (some 1)
        else
          (B1 (m_maySwap σ x14) fun v26 =>
          if v26 = 0 then
            (some 0)
          else
            (some 1)))) : Option (Int32)) fun x24 =>
    some (Sum.inl (x18, x24, x14 + 1)))
noncomputable def m_pairs_L101  (σ102 : St) (x103 : Int32) : Option ((St × Int32) ⊕ (St)) :=
  if 6 ≤ x103 then
    (some (Sum.inr σ102))
  else
    (B1 (rdA 6 σ102 56 x103) fun v105 =>
    B1 (wrA 6 σ102 57 x103 v105) fun σ107 =>
    some (Sum.inl (σ107, x103 + 1)))
noncomputable def m_pairs_L109  (σ110 : St) (x111 : Int32) : Option ((St × Int32) ⊕ (St)) :=
  if 6 ≤ x111 then
    (some (Sum.inr σ110))
  else
    (B1 (rdA 6 σ110 57 x111) fun v113 =>
    B1 (wrA 6 σ110 55 x111 v113) fun σ115 =>
    some (Sum.inl (σ115, x111 + 1)))
noncomputable def m_pairs_L89 (a1 : Int32) (a2 : Int32) (σ90 : St) (x91 : Int32) (x92 : Int32) : Option ((St × Int32 × Int32) ⊕ (St × Int32)) :=
  if 216 ≤ x92 then
    (some (Sum.inr (σ90, x91)))
  else
    (B2 (m_partWays σ90 a1 a2 x92) fun v96 σ97 =>
    B2 ((if x91 ≤ v96 then
        (some (σ97, x91))
      else
        (B1 (lq2 (m_pairs_L101) σ97 0) fun σ104 =>
        some (σ104, v96))) : Option (St × Int32)) fun σ99 x100 =>
    some (Sum.inl (σ99, x100, x92 + 1)))
noncomputable def m_pairs_L73 (σ : St) (a1 : Int32) (a2 : Int32) (x74 : Int32) (x75 : Int32) (x76 : Int32) : Option ((Int32 × Int32 × Int32) ⊕ (Int32 × Int32)) :=
  if 6 ≤ x76 then
    (some (Sum.inr (x74, x75)))
  else
    (B1 ((if x74 = 0 then
        (some 0)
      else
        (B1 (rdA 240 σ 7 ((40 * a2) + x76)) fun v81 =>
        B1 (m_isYard v81) fun v84 =>
        if v84 = 0 then
          (some 0)
        else
          (some 1))) : Option (Int32)) fun x80 =>
    B1 ((if x75 = 0 then
        (some 0)
      else
        (if ((a1 >>> (x76 &&& 31)) &&& 1) = 0 then
          (some 1)
        else
          (B1 (m_maySwap σ x76) fun v88 =>
          if v88 = 0 then
            (some 0)
          else
            (some 1)))) : Option (Int32)) fun x86 =>
    some (Sum.inl (x80, x86, x76 + 1)))
noncomputable def m_pairs_L163  (σ164 : St) (x165 : Int32) : Option ((St × Int32) ⊕ (St)) :=
  if 6 ≤ x165 then
    (some (Sum.inr σ164))
  else
    (B1 (rdA 6 σ164 56 x165) fun v167 =>
    B1 (wrA 6 σ164 57 x165 v167) fun σ169 =>
    some (Sum.inl (σ169, x165 + 1)))
noncomputable def m_pairs_L171  (σ172 : St) (x173 : Int32) : Option ((St × Int32) ⊕ (St)) :=
  if 6 ≤ x173 then
    (some (Sum.inr σ172))
  else
    (B1 (rdA 6 σ172 57 x173) fun v175 =>
    B1 (wrA 6 σ172 55 x173 v175) fun σ177 =>
    some (Sum.inl (σ177, x173 + 1)))
noncomputable def m_pairs_L151 (a1 : Int32) (a2 : Int32) (σ152 : St) (x153 : Int32) (x154 : Int32) : Option ((St × Int32 × Int32) ⊕ (St × Int32)) :=
  if 216 ≤ x154 then
    (some (Sum.inr (σ152, x153)))
  else
    (B2 (m_partWays σ152 a1 a2 x154) fun v158 σ159 =>
    B2 ((if x153 ≤ v158 then
        (some (σ159, x153))
      else
        (B1 (lq2 (m_pairs_L163) σ159 0) fun σ166 =>
        some (σ166, v158))) : Option (St × Int32)) fun σ161 x162 =>
    some (Sum.inl (σ161, x162, x154 + 1)))
noncomputable def m_pairs_L135 (σ : St) (a1 : Int32) (a2 : Int32) (x136 : Int32) (x137 : Int32) (x138 : Int32) : Option ((Int32 × Int32 × Int32) ⊕ (Int32 × Int32)) :=
  if 6 ≤ x138 then
    (some (Sum.inr (x136, x137)))
  else
    (B1 ((if x136 = 0 then
        (some 0)
      else
        (B1 (rdA 240 σ 7 ((40 * a2) + x138)) fun v143 =>
        B1 (m_isYard v143) fun v146 =>
        if v146 = 0 then
          (some 0)
        else
          (some 1))) : Option (Int32)) fun x142 =>
    B1 ((if x137 = 0 then
        (some 0)
      else
        (if ((a1 >>> (x138 &&& 31)) &&& 1) = 0 then
          (some 1)
        else
          (B1 (m_maySwap σ x138) fun v150 =>
          if v150 = 0 then
            (some 0)
          else
            (some 1)))) : Option (Int32)) fun x148 =>
    some (Sum.inl (x142, x148, x138 + 1)))
noncomputable def m_pairs (σ : St) (a1 : Int32) (a2 : Int32) : Option (Int32 × St) :=
  B1 (m_bits a1) fun v2 =>
  B1 (m_in a1 0 63) fun v4 =>
  if v4 = 0 then
    (some ((-1), σ))
  else
    (if v2 = 2 then
      (B1 (m_isRow a2) fun v6 =>
      if v6 = 0 then
        (some ((-1), σ))
      else
        (B1 (rdA 6 σ 6 a2) fun v7 =>
        if 0 ≤ v7 then
          (B1 (rdA 6 σ 6 a2) fun v9 =>
          if v9 = 6 then
            (B2 (lq3 (m_pairs_L11 σ a1 a2) 1 1 0) fun x15 x16 =>
            if x15 = 0 then
              (B2 (m_meets σ 3) fun v59 σ60 =>
              some (v59, σ60))
            else
              (if x16 = 0 then
                (some ((-4), σ))
              else
                (B2 (lq3 (m_pairs_L27 a1 a2) σ 100000000 0) fun σ31 x32 =>
                if x32 = 100000000 then
                  (B2 (m_meets σ31 1) fun v56 σ57 =>
                  some (v56, σ57))
                else
                  (B1 (lq2 (m_pairs_L47) σ31 0) fun σ50 =>
                  some (x32, σ50)))))
          else
            (B2 (m_meets σ 5) fun v62 σ63 =>
            some (v62, σ63)))
        else
          (B2 (m_meets σ 1) fun v65 σ66 =>
          some (v65, σ66))))
    else
      (if v2 = 4 then
        (B1 (m_isRow a2) fun v68 =>
        if v68 = 0 then
          (some ((-1), σ))
        else
          (B1 (rdA 6 σ 6 a2) fun v69 =>
          if 0 ≤ v69 then
            (B1 (rdA 6 σ 6 a2) fun v71 =>
            if v71 = 6 then
              (B2 (lq3 (m_pairs_L73 σ a1 a2) 1 1 0) fun x77 x78 =>
              if x77 = 0 then
                (B2 (m_meets σ 3) fun v121 σ122 =>
                some (v121, σ122))
              else
                (if x78 = 0 then
                  (some ((-4), σ))
                else
                  (B2 (lq3 (m_pairs_L89 a1 a2) σ 100000000 0) fun σ93 x94 =>
                  if x94 = 100000000 then
                    (B2 (m_meets σ93 1) fun v118 σ119 =>
                    some (v118, σ119))
                  else
                    (B1 (lq2 (m_pairs_L109) σ93 0) fun σ112 =>
                    some (x94, σ112)))))
            else
              (B2 (m_meets σ 5) fun v124 σ125 =>
              some (v124, σ125)))
          else
            (B2 (m_meets σ 1) fun v127 σ128 =>
            some (v127, σ128))))
      else
        (if v2 = 6 then
          (B1 (m_isRow a2) fun v130 =>
          if v130 = 0 then
            (some ((-1), σ))
          else
            (B1 (rdA 6 σ 6 a2) fun v131 =>
            if 0 ≤ v131 then
              (B1 (rdA 6 σ 6 a2) fun v133 =>
              if v133 = 6 then
                (B2 (lq3 (m_pairs_L135 σ a1 a2) 1 1 0) fun x139 x140 =>
                if x139 = 0 then
                  (B2 (m_meets σ 3) fun v183 σ184 =>
                  some (v183, σ184))
                else
                  (if x140 = 0 then
                    (some ((-4), σ))
                  else
                    (B2 (lq3 (m_pairs_L151 a1 a2) σ 100000000 0) fun σ155 x156 =>
                    if x156 = 100000000 then
                      (B2 (m_meets σ155 1) fun v180 σ181 =>
                      some (v180, σ181))
                    else
                      (B1 (lq2 (m_pairs_L171) σ155 0) fun σ174 =>
                      some (x156, σ174)))))
              else
                (B2 (m_meets σ 5) fun v186 σ187 =>
                some (v186, σ187)))
            else
              (B2 (m_meets σ 1) fun v189 σ190 =>
              some (v189, σ190))))
        else
          (some ((-1), σ)))))
noncomputable def m_partner (σ : St) (a1 : Int32) : Option (Int32) :=
  B1 (m_isTractor a1) fun v2 =>
  B1 ((if v2 = 0 then
      (some (-1))
    else
      (B1 (rdA 6 σ 55 a1) fun v5 =>
      some v5)) : Option (Int32)) fun x4 =>
  some x4
noncomputable def m_late (σ : St) (a1 : Int32) (a2 : Int32) (a3 : Int32) (a4 : Int32) (a5 : Int32) (a6 : Int32) : Option (Int32 × St) :=
  B1 (m_isTractor a1) fun v2 =>
  if v2 = 0 then
    (some ((-1), σ))
  else
    (B1 (m_isTractor a2) fun v4 =>
    if v4 = 0 then
      (some ((-1), σ))
    else
      (if a1 = a2 then
        (some ((-1), σ))
      else
        (B1 (m_isYard a3) fun v6 =>
        if v6 = 0 then
          (some ((-1), σ))
        else
          (B1 (m_isYard a4) fun v8 =>
          if v8 = 0 then
            (some ((-1), σ))
          else
            (B1 (m_in a5 0 2000) fun v10 =>
            if v10 = 0 then
              (some ((-1), σ))
            else
              (B1 (m_in a6 0 99999) fun v12 =>
              if v12 = 0 then
                (some ((-1), σ))
              else
                (B1 (m_maySwap σ a1) fun v14 =>
                if v14 = 0 then
                  (some ((-4), σ))
                else
                  (B1 (m_maySwap σ a2) fun v16 =>
                  if v16 = 0 then
                    (some ((-4), σ))
                  else
                    (B2 (m_swapsAt σ a1 a2 a3 a3 a4 a5) fun v18 σ19 =>
                    if v18 = 0 then
                      (B2 (m_meets σ19 1) fun v44 σ45 =>
                      some (v44, σ45))
                    else
                      (B1 ((if (cI σ19 53) ≤ a6 then
                          (some 0)
                        else
                          (some (((cI σ19 53) - a6).toInt64))) : Option (Int64)) fun x21 =>
                      B1 (rdA 6 σ19 31 a2) fun v22 =>
                      B1 (rdA 12 σ19 21 v22) fun v24 =>
                      B1 (rdA 6 σ19 31 a1) fun v26 =>
                      B1 (rdA 12 σ19 21 v26) fun v28 =>
                      B1 (rdA 6 σ19 31 a2) fun v30 =>
                      B1 (rdA 12 σ19 21 v30) fun v32 =>
                      B2 ((if 0 < (lg_cmp ((x21 * v24.toInt64) / 1000) (((v28 + v32) / 10).toInt64)) then
                          (B2 (m_ask σ19 ((((v28 + v32) / 10).toInt64).toInt32) 0) fun v38 σ39 =>
                          some (σ39, v38))
                        else
                          (B2 (m_ask σ19 (((x21 * v24.toInt64) / 1000).toInt32) 1) fun v41 σ42 =>
                          some (σ42, v41))) : Option (St × Int32)) fun σ35 x36 =>
                      some (x36, σ35)))))))))))
noncomputable def m_yardsOf_L11 (x4 : Int32) (σ12 : St) (x13 : Int32) (x14 : Int32) : Option ((St × Int32 × Int32) ⊕ (St × Int32)) :=
  if 8 ≤ x14 then
    (some (Sum.inr (σ12, x13)))
  else
    (B1 (rdA 60 σ12 39 x4) fun v17 =>
    B1 (rdA 60 σ12 37 x4) fun v19 =>
    B2 (m_comesTo σ12 v17 v19 x14) fun v22 σ23 =>
    B1 ((if (cI σ23 5) < v22 then
        (some 0)
      else
        (some (1 <<< (x14 &&& 31)))) : Option (Int32)) fun x25 =>
    some (Sum.inl (σ23, x13 ||| x25, x14 + 1)))
noncomputable def m_yardsOf_L1 (σ : St) (a1 : Int32) (x2 : Int32) (x3 : Int32) : Option ((Int32 × Int32) ⊕ (Int32)) :=
  if (cI σ 34) ≤ x3 then
    (some (Sum.inr x2))
  else
    (B1 (rdA 60 σ 35 x3) fun v5 =>
    B1 ((if v5 = a1 then
        (B1 (rdA 60 σ 36 x3) fun v9 =>
        if 2 ≤ v9 then
          (some x2)
        else
          (some x3))
      else
        (some x2)) : Option (Int32)) fun x8 =>
    some (Sum.inl (x8, x3 + 1)))
noncomputable def m_yardsOf (σ : St) (a1 : Int32) : Option (Int32 × St) :=
  B1 (lq2 (m_yardsOf_L1 σ a1) (-9) 0) fun x4 =>
  B2 (lq3 (m_yardsOf_L11 x4) σ 0 0) fun σ15 x16 =>
  some (x16, σ15)
noncomputable def m_canBe (σ : St) (a1 : Int32) : Option (Int32 × St) :=
  B1 (m_isTrailer σ a1) fun v2 =>
  B2 ((if v2 = 0 then
      (some (σ, (-1)))
    else
      (B1 (rdA 12 σ 20 a1) fun v6 =>
      if v6 = 0 then
        (some (σ, (-4)))
      else
        (B2 (m_yardsOf σ a1) fun v9 σ10 =>
        some (σ10, v9)))) : Option (St × Int32)) fun σ4 x5 =>
  some (x5, σ4)
noncomputable def m_nextOrder_L23  (σ24 : St) (x25 : Int32) (x26 : Int32) : Option ((St × Int32 × Int32) ⊕ (St)) :=
  if x26 ≤ x25 then
    (some (Sum.inr σ24))
  else
    (B1 (rdA 6 σ24 61 x25) fun v28 =>
    B1 (rdA 6 σ24 61 x26) fun v30 =>
    B1 (wrA 6 σ24 61 x25 v30) fun σ32 =>
    B1 (wrA 6 σ32 61 x26 v28) fun σ34 =>
    some (Sum.inl (σ34, x25 + 1, x26 + (-1))))
noncomputable def m_nextOrder_L8 (σ : St) (x3 : Int32) (x9 : Int32) : Option ((Int32) ⊕ (Int32)) :=
  B1 (rdA 6 σ 61 x9) fun v11 =>
  B1 (rdA 6 σ 61 x3) fun v13 =>
  if v13 ≤ v11 then
    (some (Sum.inr x9))
  else
    (some (Sum.inl (x9 + (-1))))
noncomputable def m_nextOrder_L1 (σ : St) (x2 : Int32) : Option ((Int32) ⊕ (Int32)) :=
  if x2 < 0 then
    (some (Sum.inr x2))
  else
    (B1 (rdA 6 σ 61 x2) fun v4 =>
    B1 (rdA 6 σ 61 (x2 + 1)) fun v6 =>
    if v4 ≤ v6 then
      (some (Sum.inr x2))
    else
      (some (Sum.inl (x2 + (-1)))))
noncomputable def m_nextOrder (σ : St) (a1 : Int32) : Option (Int32 × St) :=
  B1 (lq1 (m_nextOrder_L1 σ) (a1 - 2)) fun x3 =>
  if 0 ≤ x3 then
    (B1 (lq1 (m_nextOrder_L8 σ x3) (a1 - 1)) fun x10 =>
    B1 (rdA 6 σ 61 x3) fun v15 =>
    B1 (rdA 6 σ 61 x10) fun v17 =>
    B1 (wrA 6 σ 61 x3 v17) fun σ19 =>
    B1 (wrA 6 σ19 61 x10 v15) fun σ21 =>
    B1 (lq3 (m_nextOrder_L23) σ21 (x3 + 1) (a1 - 1)) fun σ27 =>
    some (1, σ27))
  else
    (some (0, σ))
noncomputable def m_look_L75 (x24 : Int32) (σ76 : St) (x77 : Int32) : Option ((St × Int32) ⊕ (St)) :=
  if x24 ≤ x77 then
    (some (Sum.inr σ76))
  else
    (B1 (rdA 6 σ76 61 x77) fun v79 =>
    B1 (rdA 6 σ76 60 v79) fun v81 =>
    B1 (wrA 6 σ76 59 x77 v81) fun σ83 =>
    some (Sum.inl (σ83, x77 + 1)))
noncomputable def m_look_L85 (x24 : Int32) (σ86 : St) (x87 : Int32) : Option ((St × Int32) ⊕ (St)) :=
  if x24 ≤ x87 then
    (some (Sum.inr σ86))
  else
    (B1 (rdA 6 σ86 61 x87) fun v89 =>
    B1 (rdA 6 σ86 60 v89) fun v91 =>
    B1 (wrA 6 σ86 59 x87 v91) fun σ93 =>
    some (Sum.inl (σ93, x87 + 1)))
noncomputable def m_look_L56 (a3 : Int32) (x24 : Int32) (σ57 : St) (x58 : Int32) (x59 : Int32) (x60 : Int32) (x61 : Int32) : Option ((St × Int32 × Int32 × Int32 × Int32) ⊕ (St × Int32)) :=
  if x24 ≤ x61 then
    (some (Sum.inr (σ57, x58)))
  else
    (B1 (rdA 6 σ57 61 x61) fun v64 =>
    B1 (rdA 6 σ57 60 v64) fun v66 =>
    B2 (m_comesTo σ57 x59 x60 v66) fun v69 σ70 =>
    B1 (rdA 240 σ70 7 ((40 * a3) + v66)) fun v71 =>
    some (Sum.inl (σ70, x58 + (v71 * (v69 - (cI σ70 5))), v66, v69, x61 + 1)))
noncomputable def m_look_L52 (a2 : Int32) (a3 : Int32) (x24 : Int32) (σ53 : St) (x54 : Int32) : Option ((St × Int32) ⊕ (St)) :=
  if x54 = 0 then
    (some (Sum.inr σ53))
  else
    (B2 (lq5 (m_look_L56 a3 x24) σ53 0 a2 (cI σ53 5) 0) fun σ62 x63 =>
    B1 ((if (cI σ62 62) < 0 then
        (B1 (lq2 (m_look_L75 x24) (sI σ62 62 x63) 0) fun σ78 =>
        some σ78)
      else
        (if (cI σ62 62) ≤ x63 then
          (some σ62)
        else
          (B1 (lq2 (m_look_L85 x24) (sI σ62 62 x63) 0) fun σ88 =>
          some σ88))) : Option (St)) fun σ74 =>
    B2 (m_nextOrder σ74 x24) fun v96 σ97 =>
    some (Sum.inl (σ97, v96)))
noncomputable def m_look_L46 (x24 : Int32) (σ47 : St) (x48 : Int32) : Option ((St × Int32) ⊕ (St)) :=
  if x24 ≤ x48 then
    (some (Sum.inr σ47))
  else
    (B1 (wrA 6 σ47 61 x48 x48) fun σ50 =>
    some (Sum.inl (σ50, x48 + 1)))
noncomputable def m_look_L16 (a2 : Int32) (a3 : Int32) (v14 : Int32) (σ17 : St) (x18 : Int32) (x19 : Int32) (x20 : Int32) (x21 : Int32) : Option ((St × Int32 × Int32 × Int32 × Int32) ⊕ (St × Int32 × Int32 × Int32)) :=
  if 8 ≤ x21 then
    (some (Sum.inr (σ17, x18, x19, x20)))
  else
    (B1 (rdA 240 σ17 7 ((40 * a3) + x21)) fun v26 =>
    B1 ((if x18 = 0 then
        (some 0)
      else
        (B1 (m_in v26 0 100) fun v31 =>
        if v31 = 0 then
          (some 0)
        else
          (some 1))) : Option (Int32)) fun x29 =>
    B3 ((if v26 ≤ 0 then
        (some (σ17, x19, x20))
      else
        (if ((v14 >>> (x21 &&& 31)) &&& 1) = 1 then
          (B1 ((if 6 ≤ x19 then
              (some σ17)
            else
              (B1 (wrA 6 σ17 60 x19 x21) fun σ38 =>
              some σ38)) : Option (St)) fun σ37 =>
          B2 ((if x20 = 0 then
              (some (σ37, 0))
            else
              (B2 (m_comesTo σ37 a2 (cI σ37 5) x21) fun v44 σ45 =>
              if 100000000 ≤ v44 then
                (some (σ45, 0))
              else
                (some (σ45, 1)))) : Option (St × Int32)) fun σ41 x42 =>
          some (σ41, x19 + 1, x42))
        else
          (some (σ17, x19, x20)))) : Option (St × Int32 × Int32)) fun σ33 x34 x35 =>
    some (Sum.inl (σ33, x29, x34, x35, x21 + 1)))
noncomputable def m_look (σ : St) (a1 : Int32) (a2 : Int32) (a3 : Int32) : Option (Int32 × St) :=
  B1 (m_isTrailer σ a1) fun v2 =>
  if v2 = 0 then
    (some ((-1), σ))
  else
    (B1 (m_isYard a2) fun v4 =>
    if v4 = 0 then
      (some ((-1), σ))
    else
      (B1 (m_isRow a3) fun v6 =>
      if v6 = 0 then
        (some ((-1), σ))
      else
        (B1 (rdA 12 σ 20 a1) fun v7 =>
        if v7 = 0 then
          (some ((-4), σ))
        else
          (B1 (rdA 6 σ 6 a3) fun v9 =>
          if 0 ≤ v9 then
            (B1 (rdA 6 σ 6 a3) fun v11 =>
            if v11 = 8 then
              (B2 (m_yardsOf σ a1) fun v14 σ15 =>
              B4 (lq5 (m_look_L16 a2 a3 v14) σ15 1 0 1 0) fun σ22 x23 x24 x25 =>
              if x23 = 0 then
                (B2 (m_meets σ22 3) fun v105 σ106 =>
                some (v105, σ106))
              else
                (if x24 ≤ 6 then
                  (if x25 = 0 then
                    (B2 (m_meets σ22 1) fun v102 σ103 =>
                    some (v102, σ103))
                  else
                    (B1 (lq2 (m_look_L46 x24) σ22 0) fun σ49 =>
                    B1 (lq2 (m_look_L52 a2 a3 x24) (sI σ49 62 (-9)) 1) fun σ55 =>
                    B2 (m_ask (sI σ55 58 x24) (cI (sI σ55 58 x24) 62) x24) fun v99 σ100 =>
                    some (v99, σ100)))
                else
                  (some ((-2), σ22))))
            else
              (B2 (m_meets σ 5) fun v108 σ109 =>
              some (v108, σ109)))
          else
            (B2 (m_meets σ 1) fun v111 σ112 =>
            some (v111, σ112))))))
noncomputable def m_looked (σ : St) (a1 : Int32) : Option (Int32) :=
  B1 (m_in a1 0 ((cI σ 58) - 1)) fun v2 =>
  B1 ((if v2 = 0 then
      (some (-9))
    else
      (B1 (rdA 6 σ 59 a1) fun v5 =>
      some v5)) : Option (Int32)) fun x4 =>
  some x4
noncomputable def m_nextBrought_L21  (σ22 : St) (x23 : Int32) (x24 : Int32) : Option ((St × Int32 × Int32) ⊕ (St × Int32)) :=
  if 64 ≤ x24 then
    (some (Sum.inr (σ22, x23)))
  else
    (B1 (rdA 64 σ22 66 x24) fun v27 =>
    B2 ((if 100000000 ≤ v27 then
        (some (σ22, x23))
      else
        (B1 (rdA 16 σ22 67 (x24 / 8)) fun v32 =>
        if 100000000 ≤ v32 then
          (some (σ22, x23))
        else
          (B1 (rdA 16 σ22 67 (x24 / 8)) fun v34 =>
          B1 (rdA 64 σ22 66 x24) fun v36 =>
          B1 (rdA 16 σ22 67 (8 + (x24 - x24 / 8 * 8))) fun v38 =>
          if v38 ≤ (v34 + v36) then
            (some (σ22, x23))
          else
            (B1 (rdA 16 σ22 67 (x24 / 8)) fun v40 =>
            B1 (rdA 64 σ22 66 x24) fun v42 =>
            B1 (wrA 16 σ22 67 (8 + (x24 - x24 / 8 * 8)) (v40 + v42)) fun σ44 =>
            B1 (wrA 16 σ44 68 (8 + (x24 - x24 / 8 * 8)) (x24 / 8)) fun σ46 =>
            some (σ46, 1))))) : Option (St × Int32)) fun σ30 x31 =>
    B1 (rdA 64 σ30 63 x24) fun v48 =>
    B2 ((if v48 ≤ 0 then
        (some (σ30, x31))
      else
        (B1 (rdA 16 σ30 67 (8 + (x24 - x24 / 8 * 8))) fun v53 =>
        if 100000000 ≤ v53 then
          (some (σ30, x31))
        else
          (B1 (rdA 16 σ30 67 (8 + (x24 - x24 / 8 * 8))) fun v55 =>
          B1 (rdA 64 σ30 66 x24) fun v57 =>
          B1 (rdA 16 σ30 67 (x24 / 8)) fun v59 =>
          if v59 ≤ (v55 - v57) then
            (some (σ30, x31))
          else
            (B1 (rdA 16 σ30 67 (8 + (x24 - x24 / 8 * 8))) fun v61 =>
            B1 (rdA 64 σ30 66 x24) fun v63 =>
            B1 (wrA 16 σ30 67 (x24 / 8) (v61 - v63)) fun σ65 =>
            B1 (wrA 16 σ65 68 (x24 / 8) (8 + (x24 - x24 / 8 * 8))) fun σ67 =>
            some (σ67, 1))))) : Option (St × Int32)) fun σ51 x52 =>
    some (Sum.inl (σ51, x52, x24 + 1)))
noncomputable def m_nextBrought_L69 (σ20 : St) (x70 : Int32) (x71 : Int32) : Option ((Int32 × Int32) ⊕ (Int32)) :=
  if 16 ≤ x71 then
    (some (Sum.inr x70))
  else
    (B1 (rdA 8 σ20 65 (x71 - 8)) fun v73 =>
    B1 ((if v73 ≤ 0 then
        (some x70)
      else
        (B1 (rdA 16 σ20 67 x71) fun v77 =>
        if 100000000 ≤ v77 then
          (some x70)
        else
          (if x70 < 0 then
            (some x71)
          else
            (B1 (rdA 16 σ20 67 x71) fun v79 =>
            B1 (rdA 16 σ20 67 x70) fun v81 =>
            if v81 ≤ v79 then
              (some x70)
            else
              (some x71))))) : Option (Int32)) fun x76 =>
    some (Sum.inl (x76, x71 + 1)))
noncomputable def m_nextBrought_L17  (σ18 : St) (x19 : Int32) : Option ((St × Int32) ⊕ (St)) :=
  if x19 = 0 then
    (some (Sum.inr σ18))
  else
    (B2 (lq3 (m_nextBrought_L21) σ18 0 0) fun σ25 x26 =>
    some (Sum.inl (σ25, x26)))
noncomputable def m_nextBrought_L1  (σ2 : St) (x3 : Int32) : Option ((St × Int32) ⊕ (St)) :=
  if 8 ≤ x3 then
    (some (Sum.inr σ2))
  else
    (B1 (rdA 8 σ2 64 x3) fun v5 =>
    B1 ((if v5 ≤ 0 then
        (some 100000000)
      else
        (some 0)) : Option (Int32)) fun x8 =>
    B1 (wrA 16 σ2 67 x3 x8) fun σ9 =>
    B1 (wrA 16 σ9 67 (8 + x3) 100000000) fun σ11 =>
    B1 (wrA 16 σ11 68 x3 (-9)) fun σ13 =>
    B1 (wrA 16 σ13 68 (8 + x3) (-9)) fun σ15 =>
    some (Sum.inl (σ15, x3 + 1)))
noncomputable def m_nextBrought (σ : St)  : Option (Int32 × St) :=
  B1 (lq2 (m_nextBrought_L1) σ 0) fun σ4 =>
  B1 (lq2 (m_nextBrought_L17) σ4 1) fun σ20 =>
  B1 (lq2 (m_nextBrought_L69 σ20) (-9) 8) fun x72 =>
  some (x72, σ20)
noncomputable def m_pool_L79  (σ80 : St) (x81 : Int32) : Option ((St × Int32) ⊕ (St × Int32)) :=
  B1 (rdA 16 σ80 68 x81) fun v84 =>
  if v84 < 0 then
    (some (Sum.inr (σ80, x81)))
  else
    (B1 (rdA 16 σ80 68 x81) fun v86 =>
    B1 ((if x81 < 8 then
        (some (((8 * x81) + v86) - 8))
      else
        (some (((8 * v86) + x81) - 8))) : Option (Int32)) fun x89 =>
    B1 (rdA 64 σ80 63 x89) fun v90 =>
    B1 ((if x81 < 8 then
        (some (-1))
      else
        (some 1)) : Option (Int32)) fun x93 =>
    B1 (wrA 64 σ80 63 x89 (v90 + x93)) fun σ94 =>
    some (Sum.inl (σ94, v86)))
noncomputable def m_pool_L65  (σ66 : St) (x67 : Int32) (x68 : Int32) (x69 : Int32) : Option ((St × Int32 × Int32 × Int32) ⊕ (St × Int32 × Int32)) :=
  if x69 < 0 then
    (some (Sum.inr (σ66, x67, x68)))
  else
    (B1 (rdA 16 σ66 67 x69) fun v73 =>
    B1 (rdA 8 σ66 65 (x69 - 8)) fun v75 =>
    B1 (wrA 8 σ66 65 (x69 - 8) (v75 - 1)) fun σ77 =>
    B2 (lq2 (m_pool_L79) σ77 x69) fun σ82 x83 =>
    B1 (rdA 8 σ82 64 x83) fun v96 =>
    B1 (wrA 8 σ82 64 x83 (v96 - 1)) fun σ98 =>
    B2 (m_nextBrought σ98) fun v101 σ102 =>
    some (Sum.inl (σ102, x67 + (-1), x68 + v73, v101)))
noncomputable def m_pool_L49  (σ50 : St) (x51 : Int32) : Option ((St × Int32) ⊕ (St)) :=
  if 64 ≤ x51 then
    (some (Sum.inr σ50))
  else
    (B1 (wrA 64 σ50 63 x51 0) fun σ53 =>
    B2 (m_comesTo σ53 (x51 / 8) (cI σ53 5) (x51 - x51 / 8 * 8)) fun v56 σ57 =>
    B1 ((if 100000000 ≤ v56 then
        (some 100000000)
      else
        (some (v56 - (cI σ57 5)))) : Option (Int32)) fun x59 =>
    B1 (wrA 64 σ57 66 x51 x59) fun σ60 =>
    some (Sum.inl (σ60, x51 + 1)))
noncomputable def m_pool_L19 (a1 : Int32) (a2 : Int32) (σ20 : St) (x21 : Int32) (x22 : Int32) : Option ((St × Int32 × Int32) ⊕ ((St × Int32) ⊕ (Int32 × St))) :=
  if 8 ≤ x22 then
    (some (Sum.inr (Sum.inl (σ20, x21))))
  else
    (B1 (rdA 240 σ20 7 ((40 * a1) + x22)) fun v25 =>
    B1 (rdA 240 σ20 7 ((40 * a2) + x22)) fun v27 =>
    B1 (m_in v25 0 30) fun v30 =>
    if v30 = 0 then
      (B2 (m_meets σ20 3) fun v32 σ33 =>
      some (Sum.inr (Sum.inr (v32, σ33))))
    else
      (B1 (m_in v27 0 30) fun v35 =>
      if v35 = 0 then
        (B2 (m_meets σ20 3) fun v47 σ48 =>
        some (Sum.inr (Sum.inr (v47, σ48))))
      else
        (B1 ((if v25 ≤ v27 then
            (some 0)
          else
            (some (v25 - v27))) : Option (Int32)) fun x37 =>
        B1 (wrA 8 σ20 64 x22 x37) fun σ38 =>
        B1 ((if v27 ≤ v25 then
            (some 0)
          else
            (some (v27 - v25))) : Option (Int32)) fun x41 =>
        B1 (wrA 8 σ38 65 x22 x41) fun σ42 =>
        B1 (rdA 8 σ42 65 x22) fun v44 =>
        some (Sum.inl (σ42, x21 + v44, x22 + 1)))))
noncomputable def m_pool (σ : St) (a1 : Int32) (a2 : Int32) : Option (Int32 × St) :=
  B1 (m_isRow a1) fun v2 =>
  if v2 = 0 then
    (some ((-1), σ))
  else
    (B1 (m_isRow a2) fun v4 =>
    if v4 = 0 then
      (some ((-1), σ))
    else
      (B1 (rdA 6 σ 6 a1) fun v5 =>
      if v5 < 0 then
        (B2 (m_meets σ 1) fun v8 σ9 =>
        some (v8, σ9))
      else
        (B1 (rdA 6 σ 6 a2) fun v10 =>
        if 0 ≤ v10 then
          (B1 (rdA 6 σ 6 a1) fun v12 =>
          if v12 = 8 then
            (B1 (rdA 6 σ 6 a2) fun v17 =>
            if v17 = 8 then
              (BR2 (lq3 (m_pool_L19 a1 a2) σ 0 0) (fun σ23 x24 =>
              B1 (lq2 (m_pool_L49) σ23 0) fun σ52 =>
              B2 (m_nextBrought σ52) fun v63 σ64 =>
              B3 (lq4 (m_pool_L65) σ64 x24 0 v63) fun σ70 x71 x72 =>
              B2 (m_ask σ70 x72 x71) fun v104 σ105 =>
              some (v104, σ105)) (fun r => some r))
            else
              (B2 (m_meets σ 5) fun v107 σ108 =>
              some (v107, σ108)))
          else
            (B2 (m_meets σ 5) fun v15 σ16 =>
            some (v15, σ16)))
        else
          (B2 (m_meets σ 1) fun v110 σ111 =>
          some (v110, σ111)))))
noncomputable def m_costOf (a0 : Int32) (a1 : Int32) (a2 : Int32) (a3 : Int32) (a4 : Int32) (a5 : Int32) (a6 : Int32) : Option (Int64) :=
  B1 ((if a0 ≤ a1 then
      (some 0)
    else
      (some (a0 - a1))) : Option (Int32)) fun x2 =>
  B1 ((if a2 ≤ (a3 + a0) then
      (some 0)
    else
      (some ((a2 - a3) - a0))) : Option (Int32)) fun x4 =>
  some (((a4.toInt64 * a0.toInt64) + (a5.toInt64 * x2.toInt64)) + (a6.toInt64 * x4.toInt64))
noncomputable def m_rent_L39 (a1 : Int32) (a2 : Int32) (a3 : Int32) (a4 : Int32) (a5 : Int32) (x33 : Int32) (σ36 : St) (x37 : Int32) (x40 : Int64) (x41 : Int32) : Option ((Int64 × Int32) ⊕ (Int64)) :=
  if 10 ≤ x41 then
    (some (Sum.inr x40))
  else
    (B1 (rdA 240 σ36 7 ((40 * a1) + x33)) fun v43 =>
    B1 (m_costOf x41 x37 v43 a2 a3 a4 a5) fun v46 =>
    B1 (rdB 410 σ36 71 (((10 * x33) + 10) + x41)) fun v47 =>
    B1 ((if (lg_cmp x40 0) < 0 then
        (some (v46 + v47))
      else
        (if 0 ≤ (lg_cmp (v46 + v47) x40) then
          (some x40)
        else
          (some (v46 + v47)))) : Option (Int64)) fun x50 =>
    some (Sum.inl (x50, x41 + 1)))
noncomputable def m_rent_L35 (a1 : Int32) (a2 : Int32) (a3 : Int32) (a4 : Int32) (a5 : Int32) (x33 : Int32) (σ36 : St) (x37 : Int32) : Option ((St × Int32) ⊕ (St)) :=
  if 10 ≤ x37 then
    (some (Sum.inr σ36))
  else
    (B1 (lq2 (m_rent_L39 a1 a2 a3 a4 a5 x33 σ36 x37) (-1) 0) fun x42 =>
    B1 (wrB 410 σ36 71 ((10 * x33) + x37) x42) fun σ51 =>
    some (Sum.inl (σ51, x37 + 1)))
noncomputable def m_rent_L58 (a1 : Int32) (a2 : Int32) (a3 : Int32) (a4 : Int32) (a5 : Int32) (σ54 : St) (x55 : Int32) (x56 : Int32) (x59 : Int32) : Option ((Int32) ⊕ (Int32)) :=
  B1 (rdA 240 σ54 7 ((40 * a1) + x56)) fun v61 =>
  B1 (m_costOf x59 x55 v61 a2 a3 a4 a5) fun v64 =>
  B1 (rdB 410 σ54 71 (((10 * x56) + 10) + x59)) fun v65 =>
  B1 (rdB 410 σ54 71 ((10 * x56) + x55)) fun v67 =>
  if (lg_cmp (v64 + v65) v67) = 0 then
    (some (Sum.inr x59))
  else
    (some (Sum.inl (x59 + 1)))
noncomputable def m_rent_L53 (a1 : Int32) (a2 : Int32) (a3 : Int32) (a4 : Int32) (a5 : Int32) (v13 : Int32) (σ54 : St) (x55 : Int32) (x56 : Int32) : Option ((St × Int32 × Int32) ⊕ (St)) :=
  if v13 ≤ x56 then
    (some (Sum.inr σ54))
  else
    (B1 (lq1 (m_rent_L58 a1 a2 a3 a4 a5 σ54 x55 x56) 0) fun x60 =>
    B1 (wrA 40 σ54 70 x56 x60) fun σ69 =>
    some (Sum.inl (σ69, x60, x56 + 1)))
noncomputable def m_rent_L31 (a1 : Int32) (a2 : Int32) (a3 : Int32) (a4 : Int32) (a5 : Int32) (σ32 : St) (x33 : Int32) : Option ((St × Int32) ⊕ (St)) :=
  if x33 < 0 then
    (some (Sum.inr σ32))
  else
    (B1 (lq2 (m_rent_L35 a1 a2 a3 a4 a5 x33) σ32 0) fun σ38 =>
    some (Sum.inl (σ38, x33 + (-1))))
noncomputable def m_rent_L25 (v13 : Int32) (σ26 : St) (x27 : Int32) : Option ((St × Int32) ⊕ (St)) :=
  if 10 ≤ x27 then
    (some (Sum.inr σ26))
  else
    (B1 (wrB 410 σ26 71 ((10 * v13) + x27) 0) fun σ29 =>
    some (Sum.inl (σ29, x27 + 1)))
noncomputable def m_rent_L15 (σ : St) (a1 : Int32) (v13 : Int32) (x16 : Int32) : Option ((Int32) ⊕ ((Unit) ⊕ (Int32 × St))) :=
  if v13 ≤ x16 then
    (some (Sum.inr (Sum.inl ())))
  else
    (B1 (rdA 240 σ 7 ((40 * a1) + x16)) fun v18 =>
    B1 (m_in v18 0 9) fun v21 =>
    if v21 = 0 then
      (B2 (m_meets σ 3) fun v23 σ24 =>
      some (Sum.inr (Sum.inr (v23, σ24))))
    else
      (some (Sum.inl (x16 + 1))))
noncomputable def m_rent (σ : St) (a1 : Int32) (a2 : Int32) (a3 : Int32) (a4 : Int32) (a5 : Int32) : Option (Int32 × St) :=
  B1 (m_isRow a1) fun v2 =>
  if v2 = 0 then
    (some ((-1), σ))
  else
    (B1 (m_in a2 0 9) fun v4 =>
    if v4 = 0 then
      (some ((-1), σ))
    else
      (B1 (m_in a3 0 1000) fun v6 =>
      if v6 = 0 then
        (some ((-1), σ))
      else
        (B1 (m_in a4 0 1000) fun v8 =>
        if v8 = 0 then
          (some ((-1), σ))
        else
          (B1 (m_in a5 0 1000) fun v10 =>
          if v10 = 0 then
            (some ((-1), σ))
          else
            (B1 (rdA 6 σ 6 a1) fun v11 =>
            if 0 ≤ v11 then
              (B1 (rdA 6 σ 6 a1) fun v13 =>
              if v13 = 0 then
                (B2 (m_meets σ 5) fun v74 σ75 =>
                some (v74, σ75))
              else
                (BR1 (lq1 (m_rent_L15 σ a1 v13) 0) (fun u17 =>
                B1 (lq2 (m_rent_L25 v13) σ 0) fun σ28 =>
                B1 (lq2 (m_rent_L31 a1 a2 a3 a4 a5) σ28 (v13 - 1)) fun σ34 =>
                B1 (lq3 (m_rent_L53 a1 a2 a3 a4 a5 v13) (sI σ34 69 v13) 0 0) fun σ57 =>
                B1 (rdB 410 σ57 71 0) fun v71 =>
                some (v71.toInt32, σ57)) (fun r => some r)))
            else
              (B2 (m_meets σ 1) fun v77 σ78 =>
              some (v77, σ78)))))))
noncomputable def m_rented (σ : St) (a1 : Int32) : Option (Int32) :=
  B1 (m_in a1 0 ((cI σ 69) - 1)) fun v2 =>
  B1 ((if v2 = 0 then
      (some (-9))
    else
      (B1 (rdA 40 σ 70 a1) fun v5 =>
      some v5)) : Option (Int32)) fun x4 =>
  some x4
noncomputable def m_asked (σ : St)  : Option (Int32) :=
  some (cI σ 2)
noncomputable def m_upper (σ : St)  : Option (Int64) :=
  some (cJ σ 3)
noncomputable def m_lower (σ : St)  : Option (Int64) :=
  some (cJ σ 4)
noncomputable def m_counts_L1 (σ : St) (x2 : Int32) (x3 : Int32) : Option ((Int32 × Int32) ⊕ (Int32)) :=
  if (cI σ 16) ≤ x3 then
    (some (Sum.inr x2))
  else
    (B1 (rdA 12 σ 20 x3) fun v5 =>
    B1 ((if v5 = 0 then
        (some 0)
      else
        (some 1)) : Option (Int32)) fun x8 =>
    some (Sum.inl (x2 + x8, x3 + 1)))
noncomputable def m_counts_L9 (σ : St) (x10 : Int32) (x11 : Int32) : Option ((Int32 × Int32) ⊕ (Int32)) :=
  if 64 ≤ x11 then
    (some (Sum.inr x10))
  else
    (B1 ((if (x11 - x11 / 8 * 8) ≤ (x11 / 8) then
        (some 0)
      else
        (B1 (rdA 64 σ 11 x11) fun v15 =>
        if v15 ≤ 0 then
          (some 0)
        else
          (some 1))) : Option (Int32)) fun x14 =>
    some (Sum.inl (x10 + x14, x11 + 1)))
noncomputable def m_counts_L17 (σ : St) (x18 : Int32) (x19 : Int32) : Option ((Int32 × Int32) ⊕ (Int32)) :=
  if 6 ≤ x19 then
    (some (Sum.inr x18))
  else
    (B1 (rdA 6 σ 6 x19) fun v21 =>
    B1 ((if v21 < 0 then
        (some 0)
      else
        (some 1)) : Option (Int32)) fun x24 =>
    some (Sum.inl (x18 + x24, x19 + 1)))
noncomputable def m_counts_L25 (σ : St) (x26 : Int32) (x27 : Int32) : Option ((Int32 × Int32) ⊕ (Int32)) :=
  if 4 ≤ x27 then
    (some (Sum.inr x26))
  else
    (B1 (rdA 4 σ 9 x27) fun v29 =>
    B1 ((if v29 < 0 then
        (some 0)
      else
        (some 1)) : Option (Int32)) fun x32 =>
    some (Sum.inl (x26 + x32, x27 + 1)))
noncomputable def m_counts (σ : St) (a1 : Int32) : Option (Int32) :=
  if a1 = 0 then
    (some (cI σ 5))
  else if a1 = 1 then
    (some (cI σ 16))
  else if a1 = 2 then
    (B1 (lq2 (m_counts_L1 σ) 0 0) fun x4 =>
    some x4)
  else if a1 = 3 then
    (B1 (lq2 (m_counts_L9 σ) 0 0) fun x12 =>
    some x12)
  else if a1 = 4 then
    (some (cI σ 40))
  else if a1 = 5 then
    (some (cI σ 34))
  else if a1 = 6 then
    (B1 (lq2 (m_counts_L17 σ) 0 0) fun x20 =>
    some x20)
  else (B1 (lq2 (m_counts_L25 σ) 0 0) fun x28 =>
    some x28)
noncomputable def m_count (σ : St) (a1 : Int32) : Option (Int32) :=
  B1 (m_in a1 0 7) fun v2 =>
  B1 ((if v2 = 0 then
      (some (-1))
    else
      (B1 (m_counts σ a1) fun v6 =>
      some v6)) : Option (Int32)) fun x4 =>
  some x4
noncomputable def m_finding (σ : St)  : Option (Int32) :=
  some (cI σ 0)
noncomputable def m_findings (σ : St) (a1 : Int32) : Option (Int32) :=
  B1 (m_in a1 1 5) fun v2 =>
  B1 ((if v2 = 0 then
      (some (-1))
    else
      (B1 (rdA 6 σ 1 a1) fun v5 =>
      some v5)) : Option (Int32)) fun x4 =>
  some x4
noncomputable def m_mix (σ : St) (a1 : Int32) : Option (St) :=
  some (sJ σ 72 ((31 * (cJ σ 72)) + a1.toInt64))
noncomputable def m_digest_L35 (x33 : Int32) (σ36 : St) (x37 : Int32) : Option ((St × Int32) ⊕ (St)) :=
  if 7 < x37 then
    (some (Sum.inr σ36))
  else
    (B1 (m_trailerTells σ36 x33 x37) fun v40 =>
    B1 (m_mix σ36 v40) fun σ42 =>
    some (Sum.inl (σ42, x37 + 1)))
noncomputable def m_digest_L47 (x45 : Int32) (σ48 : St) (x49 : Int32) : Option ((St × Int32) ⊕ (St)) :=
  if 4 < x49 then
    (some (Sum.inr σ48))
  else
    (B1 (m_tractorTells σ48 x45 x49) fun v52 =>
    B1 (m_mix σ48 v52) fun σ54 =>
    some (Sum.inl (σ54, x49 + 1)))
noncomputable def m_digest_L103 (x93 : Int32) (σ104 : St) (x105 : Int32) : Option ((St × Int32) ⊕ (St)) :=
  B1 (rdA 6 σ104 6 x93) fun v107 =>
  if v107 ≤ x105 then
    (some (Sum.inr σ104))
  else
    (B1 (rdA 240 σ104 7 ((40 * x93) + x105)) fun v109 =>
    B1 (m_mix σ104 v109) fun σ112 =>
    some (Sum.inl (σ112, x105 + 1)))
noncomputable def m_digest_L125 (x115 : Int32) (σ126 : St) (x127 : Int32) : Option ((St × Int32) ⊕ (St)) :=
  B1 (rdA 4 σ126 9 x115) fun v129 =>
  if v129 ≤ x127 then
    (some (Sum.inr σ126))
  else
    (B1 (rdA 160 σ126 10 ((40 * x115) + x127)) fun v131 =>
    B1 (m_mix σ126 v131) fun σ134 =>
    some (Sum.inl (σ134, x127 + 1)))
noncomputable def m_digest_L113  (σ114 : St) (x115 : Int32) : Option ((St × Int32) ⊕ (St)) :=
  if 4 ≤ x115 then
    (some (Sum.inr σ114))
  else
    (B1 (rdA 4 σ114 9 x115) fun v117 =>
    B1 ((if 0 ≤ v117 then
        (B1 (rdA 4 σ114 9 x115) fun v121 =>
        some v121)
      else
        (some (-1))) : Option (Int32)) fun x120 =>
    B1 (m_mix σ114 x120) fun σ124 =>
    B1 (lq2 (m_digest_L125 x115) σ124 0) fun σ128 =>
    some (Sum.inl (σ128, x115 + 1)))
noncomputable def m_digest_L91  (σ92 : St) (x93 : Int32) : Option ((St × Int32) ⊕ (St)) :=
  if 6 ≤ x93 then
    (some (Sum.inr σ92))
  else
    (B1 (rdA 6 σ92 6 x93) fun v95 =>
    B1 ((if 0 ≤ v95 then
        (B1 (rdA 6 σ92 6 x93) fun v99 =>
        some v99)
      else
        (some (-1))) : Option (Int32)) fun x98 =>
    B1 (m_mix σ92 x98) fun σ102 =>
    B1 (lq2 (m_digest_L103 x93) σ102 0) fun σ106 =>
    some (Sum.inl (σ106, x93 + 1)))
noncomputable def m_digest_L75  (σ76 : St) (x77 : Int32) : Option ((St × Int32) ⊕ (St)) :=
  if (cI σ76 40) ≤ x77 then
    (some (Sum.inr σ76))
  else
    (B1 (rdA 20 σ76 41 x77) fun v79 =>
    B1 (m_mix σ76 v79) fun σ82 =>
    B1 (rdA 20 σ82 42 x77) fun v83 =>
    B1 (m_mix σ82 v83) fun σ86 =>
    some (Sum.inl (σ86, x77 + 1)))
noncomputable def m_digest_L55  (σ56 : St) (x57 : Int32) : Option ((St × Int32) ⊕ (St)) :=
  if (cI σ56 34) ≤ x57 then
    (some (Sum.inr σ56))
  else
    (B1 (rdA 60 σ56 35 x57) fun v59 =>
    B1 (m_mix σ56 v59) fun σ62 =>
    B1 (rdA 60 σ62 36 x57) fun v63 =>
    B1 (m_mix σ62 v63) fun σ66 =>
    B1 (rdA 60 σ66 37 x57) fun v67 =>
    B1 (m_mix σ66 v67) fun σ70 =>
    B1 (rdA 60 σ70 38 x57) fun v71 =>
    B1 (m_mix σ70 v71) fun σ74 =>
    some (Sum.inl (σ74, x57 + 1)))
noncomputable def m_digest_L43  (σ44 : St) (x45 : Int32) : Option ((St × Int32) ⊕ (St)) :=
  if 6 ≤ x45 then
    (some (Sum.inr σ44))
  else
    (B1 (lq2 (m_digest_L47 x45) σ44 0) fun σ50 =>
    some (Sum.inl (σ50, x45 + 1)))
noncomputable def m_digest_L31  (σ32 : St) (x33 : Int32) : Option ((St × Int32) ⊕ (St)) :=
  if (cI σ32 16) ≤ x33 then
    (some (Sum.inr σ32))
  else
    (B1 (lq2 (m_digest_L35 x33) σ32 0) fun σ38 =>
    some (Sum.inl (σ38, x33 + 1)))
noncomputable def m_digest_L9  (σ10 : St) (x11 : Int32) : Option ((St × Int32) ⊕ (St)) :=
  if 64 ≤ x11 then
    (some (Sum.inr σ10))
  else
    (B1 ((if (x11 - x11 / 8 * 8) ≤ (x11 / 8) then
        (some σ10)
      else
        (B1 (rdA 64 σ10 11 x11) fun v15 =>
        B1 (m_mix σ10 v15) fun σ18 =>
        B1 (rdA 64 σ18 12 x11) fun v19 =>
        B1 (m_mix σ18 v19) fun σ22 =>
        B1 (rdA 64 σ22 13 x11) fun v23 =>
        B1 (m_mix σ22 v23) fun σ26 =>
        B1 (rdA 64 σ26 14 x11) fun v27 =>
        B1 (m_mix σ26 v27) fun σ30 =>
        some σ30)) : Option (St)) fun σ14 =>
    some (Sum.inl (σ14, x11 + 1)))
noncomputable def m_digest_L1  (σ2 : St) (x3 : Int32) : Option ((St × Int32) ⊕ (St)) :=
  if 7 < x3 then
    (some (Sum.inr σ2))
  else
    (B1 (m_counts σ2 x3) fun v6 =>
    B1 (m_mix σ2 v6) fun σ8 =>
    some (Sum.inl (σ8, x3 + 1)))
noncomputable def m_digest (σ : St)  : Option (Int64 × St) :=
  B1 (lq2 (m_digest_L1) (sJ σ 72 17) 0) fun σ4 =>
  B1 (lq2 (m_digest_L9) σ4 0) fun σ12 =>
  B1 (lq2 (m_digest_L31) σ12 0) fun σ34 =>
  B1 (lq2 (m_digest_L43) σ34 0) fun σ46 =>
  B1 (lq2 (m_digest_L55) σ46 0) fun σ58 =>
  B1 (lq2 (m_digest_L75) σ58 0) fun σ78 =>
  B1 (m_mix σ78 (cI σ78 46)) fun σ88 =>
  B1 (m_mix σ88 (cI σ88 47)) fun σ90 =>
  B1 (lq2 (m_digest_L91) σ90 0) fun σ94 =>
  B1 (lq2 (m_digest_L113) σ94 0) fun σ116 =>
  some (cJ σ116 72, σ116)
