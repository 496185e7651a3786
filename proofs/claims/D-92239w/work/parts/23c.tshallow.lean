noncomputable def t_turning_L1 (σ : St) (q : Nat) (x2 : Int64) (x3 : Int32) : Option ((Int64 × Int32) ⊕ (Int64)) :=
  B1 (rdT σ q 7) fun v5 =>
  if v5 ≤ x3 then
    (some (Sum.inr x2))
  else
    (B1 (cL σ q) fun n7 =>
    B1 (rdD σ (q + 20) x3) fun v9 =>
    B1 (cL σ q) fun n11 =>
    B1 (rdD σ (q + 40) x3) fun v13 =>
    some (Sum.inl (x2 + (v9.toInt64 * v13.toInt64), x3 + 1)))
noncomputable def t_turning (σ : St) (q : Nat) : Option (Int64) :=
  B1 (lq2 (t_turning_L1 σ q) 0 0) fun x4 =>
  some x4
noncomputable def t_all_L1 (σ : St) (q : Nat) (x2 : Int64) (x3 : Int32) : Option ((Int64 × Int32) ⊕ (Int64)) :=
  B1 (rdT σ q 7) fun v5 =>
  if v5 ≤ x3 then
    (some (Sum.inr x2))
  else
    (B1 (cL σ q) fun n7 =>
    B1 (rdD σ (q + 20) x3) fun v9 =>
    some (Sum.inl (x2 + v9.toInt64, x3 + 1)))
noncomputable def t_all (σ : St) (q : Nat) : Option (Int64) :=
  B1 (lq2 (t_all_L1 σ q) 0 0) fun x4 =>
  some x4
noncomputable def t_isLawful (σ : St) (q : Nat) (a1 : Int32) : Option (Int32) :=
  B1 (cL σ q) fun n1 =>
  B1 (t_turning σ q) fun v3 =>
  B1 (cL σ q) fun n5 =>
  B1 (t_all σ q) fun v7 =>
  B1 (cL σ q) fun n9 =>
  B1 ((if 0 < (lg_cmp v3 (((cI σ 20).toInt64) * a1.toInt64)) then
      (some 0)
    else
      (B1 (cL σ q) fun n13 =>
      if 0 < (lg_cmp ((v7 * a1.toInt64) - v3) (((cI σ 21).toInt64) * a1.toInt64)) then
        (some 0)
      else
        (if (lg_cmp ((v7 * a1.toInt64) - v3) 0) < 0 then
          (some 0)
        else
          (some 1)))) : Option (Int32)) fun x12 =>
  B1 (bZ x12) fun v16 =>
  some v16
