noncomputable def j_abs (a0 : Int64) : Option (Int64) :=
  B1 ((if 0 ≤ (lg_cmp a0 0) then
      (some a0)
    else
      (some (-a0))) : Option (Int64)) fun x2 =>
  some x2
noncomputable def j_floorMod (a0 : Int32) (a1 : Int32) : Option (Int32) :=
  B1 (nz a1) fun v2 =>
  if 0 ≤ (a0 ^^^ a1) then
    (some (a0 - a0 / a1 * a1))
  else
    (if (a0 - a0 / a1 * a1) = 0 then
      (some (a0 - a0 / a1 * a1))
    else
      (some ((a0 - a0 / a1 * a1) + a1)))
noncomputable def j_max (a0 : Int32) (a1 : Int32) : Option (Int32) :=
  B1 ((if a0 < a1 then
      (some a1)
    else
      (some a0)) : Option (Int32)) fun x2 =>
  some x2
noncomputable def j_bitCount (a0 : Int32) : Option (Int32) :=
  B1 (some (a0 - (((a0.toUInt32 >>> ((1 : Int32).toUInt32 &&& Int32.toUInt32 31)).toInt32) &&& 1431655765))) fun x1 =>
  B1 (some ((x1 &&& 858993459) + (((x1.toUInt32 >>> ((2 : Int32).toUInt32 &&& Int32.toUInt32 31)).toInt32) &&& 858993459))) fun x3 =>
  B1 (some ((x3 + ((x3.toUInt32 >>> ((4 : Int32).toUInt32 &&& Int32.toUInt32 31)).toInt32)) &&& 252645135)) fun x5 =>
  B1 (some (x5 + ((x5.toUInt32 >>> ((8 : Int32).toUInt32 &&& Int32.toUInt32 31)).toInt32))) fun x7 =>
  B1 (some (x7 + ((x7.toUInt32 >>> ((16 : Int32).toUInt32 &&& Int32.toUInt32 31)).toInt32))) fun x9 =>
  some (x9 &&& 63)
