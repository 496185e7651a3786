/-! plain law: waits for a ferry -/
theorem i32_le {x y : Int32} : x ≤ y ↔ x.toInt ≤ y.toInt := Int32.le_iff_toInt_le
theorem i32_lt {x y : Int32} : x < y ↔ x.toInt < y.toInt := Int32.lt_iff_toInt_lt
theorem sgn_msb (a : Int32) : 0 ≤ a ↔ a.toBitVec.msb = false := by
  rw [i32_le, Int32.toInt_zero, BitVec.msb_eq_toInt]
  show 0 ≤ a.toBitVec.toInt ↔ _
  rw [decide_eq_false_iff_not]
  omega
theorem xor_sgn (a b : Int32) (hb : 0 ≤ b) : (0 ≤ a ^^^ b) ↔ 0 ≤ a := by
  have h1 := (sgn_msb b).mp hb
  rw [sgn_msb, sgn_msb, Int32.toBitVec_xor, BitVec.msb_xor, h1]
  simp
/-- when one is over a way -/
def wt (e f u : Nat) : Nat := if u ≤ f then f else f + (u - f + e - 1) / e * e
def wN (e f m u : Nat) : Nat := (if e = 0 then u else wt e f u) + m
theorem ceil_eq {e x : Nat} (he : 0 < e) : (x + e - 1) / e * e = x + (if x % e = 0 then 0 else e - x % e) := by
  have h1 := Nat.div_add_mod x e
  have h2 := Nat.mod_lt x he
  generalize hq : x / e = q at h1
  generalize hr : x % e = r at h1 h2
  by_cases h0 : r = 0
  · subst h0
    rw [if_pos rfl]
    have e1 : x + e - 1 = e * q + (e - 1) := by omega
    have e2 : (e * q + (e - 1)) / e = q := by rw [Nat.mul_add_div he, Nat.div_eq_of_lt (by omega)]; rfl
    rw [e1, e2, Nat.mul_comm]
    omega
  · rw [if_neg h0]
    have e1 : x + e - 1 = e * q + (e + (r - 1)) := by omega
    have e2 : (e * q + (e + (r - 1))) / e = q + 1 := by
      rw [Nat.mul_add_div he, Nat.add_div_left _ he, Nat.div_eq_of_lt (by omega)]
    rw [e1, e2, Nat.add_mul, Nat.mul_comm q e]
    omega
theorem wt_ge {e f u : Nat} (he : 0 < e) : u ≤ wt e f u ∧ wt e f u ≤ u + (e - 1) + (f - u) := by
  unfold wt
  by_cases h : u ≤ f
  · rw [if_pos h]; omega
  · rw [if_neg h, ceil_eq he]
    have h2 := Nat.mod_lt (u - f) he
    split <;> omega
theorem ceil_mono {e x y : Nat} (h : x ≤ y) : (x + e - 1) / e * e ≤ (y + e - 1) / e * e := Nat.mul_le_mul_right _ (Nat.div_le_div_right (by omega))
theorem wt_mono {e f u v : Nat} (h : u ≤ v) : wt e f u ≤ wt e f v := by
  unfold wt
  by_cases h1 : u ≤ f
  · rw [if_pos h1]
    split <;> omega
  · rw [if_neg h1, if_neg (by omega)]
    have := ceil_mono (e := e) (x := u - f) (y := v - f) (by omega)
    omega
theorem wN_mono {e f m u v : Nat} (h : u ≤ v) : wN e f m u ≤ wN e f m v := by
  unfold wN
  have := wt_mono (e := e) (f := f) h
  split <;> omega
theorem wN_ge {e f m u : Nat} : u ≤ wN e f m u := by
  unfold wN
  by_cases h : e = 0
  · rw [if_pos h]; omega
  · rw [if_neg h]
    have := (wt_ge (e := e) (f := f) (u := u) (by omega)).1
    omega
theorem wN_le {e f m u : Nat} (he : e ≤ 1440) (hf : f ≤ 1440) (hm : m ≤ 600) : wN e f m u ≤ u + 3500 := by
  unfold wN
  by_cases h : e = 0
  · rw [if_pos h]; omega
  · rw [if_neg h]
    have := (wt_ge (e := e) (f := f) (u := u) (by omega)).2
    omega
theorem fmod_is {e f u : Nat} (he : 0 < e) (he2 : e ≤ 1440) (hf : f < e) (hu : u < 2 ^ 29) : j_floorMod (nI f - nI u) (nI e) = some (nI (wt e f u - u)) := by
  have hnz : ¬ nI e = 0 := nI_ne0 he (by omega)
  have h0e : (0 : Int32) ≤ nI e := nI_pos' (by omega)
  unfold j_floorMod
  rw [nz_ok hnz, B1_some]
  by_cases h : u ≤ f
  · have e1 : nI f - nI u = nI (f - u) := pk_sub h
    have e2 : wt e f u = f := by unfold wt; rw [if_pos h]
    rw [e1, if_pos ((xor_sgn _ _ h0e).mpr (nI_pos' (by omega))), pk_rem (by omega) he (by omega), Nat.mod_eq_of_lt (by omega), e2]
  · have ti : (nI f - nI u).toInt = (f : Int) - u := pk_sub_toInt (by omega) (by omega)
    have hx : ¬ (0 : Int32) ≤ nI f - nI u ^^^ nI e := fun q => by
      have := (xor_sgn _ _ h0e).mp q
      rw [i32_le, Int32.toInt_zero, ti] at this
      omega
    rw [if_neg hx]
    have rem : (nI f - nI u - (nI f - nI u) / nI e * nI e).toInt = -(((u - f) % e : Nat) : Int) := by
      rw [irem_eq_mod, Int32.toInt_mod, ti, nI_toInt (by omega)]
      have e3 : (f : Int) - u = -((u - f : Nat) : Int) := by omega
      rw [e3, Int.neg_tmod, Int.tmod_eq_emod_of_nonneg (by omega)]
      rfl
    have hlt := Nat.mod_lt (u - f) he
    have e2 : wt e f u - u = if (u - f) % e = 0 then 0 else e - (u - f) % e := by
      unfold wt
      rw [if_neg h, ceil_eq he]
      split <;> omega
    rw [e2]
    by_cases hr : (u - f) % e = 0
    · have rz : nI f - nI u - (nI f - nI u) / nI e * nI e = 0 := by
        apply Int32.toInt_inj.mp
        rw [rem, hr]
        rfl
      rw [if_pos hr, rz, if_pos rfl]
      rfl
    · have rz : ¬ nI f - nI u - (nI f - nI u) / nI e * nI e = 0 := fun q => by
        rw [q, Int32.toInt_zero] at rem
        omega
      rw [if_neg hr, if_neg rz]
      refine congrArg some (Int32.toInt_inj.mp ?_)
      rw [Jvm.Kit.i32_add (by rw [rem, nI_toInt (by omega)]; omega) (by rw [rem, nI_toInt (by omega)]; omega), rem, nI_toInt (by omega), nI_toInt (by omega)]
      omega
/-- a way as it may be laid -/
def wyOk (mi tl ev fi : Nat → Int32) (k : Nat) : Prop := ∃ m t e f, m ≤ 600 ∧ t ≤ 999 ∧ e ≤ 1440 ∧ mi k = nI m ∧ tl k = nI t ∧ ev k = nI e ∧ fi k = nI f ∧ (e = 0 → f = 0) ∧ (0 < e → f < e)
def wyT (mi ev fi : Nat → Int32) (x y u : Nat) : Nat := wN (nN (ev (8 * x + y))) (nN (fi (8 * x + y))) (nN (mi (8 * x + y))) u
def wyP (tl : Nat → Int32) (x y u : Nat) : Nat := u + nN (tl (8 * x + y))
def wyE (mi : Nat → Int32) (x y : Nat) : Prop := 0 < nN (mi (8 * x + y))
theorem over_is {σ : St} {k u : Nat} (hk : k < 64) (hu : u ≤ 100000000) (hw : wyOk (cA σ 12) (cA σ 13) (cA σ 14) (cA σ 15) k) : c_over σ (nI k) (nI u) = some (nI (wN (nN (cA σ 14 k)) (nN (cA σ 15 k)) (nN (cA σ 12 k)) u)) := by
  obtain ⟨m, t, e, f, hm, ht, he, e1, e2, e3, e4, h0, h1⟩ := hw
  have hf : f ≤ 1440 := by
    by_cases h : e = 0
    · have := h0 h; omega
    · have := h1 (by omega); omega
  unfold c_over
  rw [rdA_nI hk (by decide), B1_some, rdA_nI hk (by decide), rdA_nI hk (by decide), e1, e3, e4, nN_nI (by omega), nN_nI (by omega), nN_nI (by omega)]
  by_cases h : e = 0
  · subst h
    rw [if_pos nI_0, B1_some, B1_some, Int32.add_zero, nI_add]
    unfold wN
    rw [if_pos rfl]
  · have he0 : 0 < e := by omega
    have hwt := wt_ge (e := e) (f := f) (u := u) he0
    rw [if_neg (nI_ne0 he0 (by omega)), B1_some, fmod_is he0 he (h1 he0) (by omega), B1_some, B1_some, B1_some, nI_add, nI_add]
    unfold wN
    rw [if_neg h]
    congr 2
    omega
theorem beyond_is {τ : St} {k u : Nat} (hk : k < 64) (hu : u ≤ 100000000) (hw : wyOk (cA τ 11) (cA τ 12) (cA τ 13) (cA τ 14) k) : m_beyond τ (nI k) (nI u) = some (nI (wN (nN (cA τ 13 k)) (nN (cA τ 14 k)) (nN (cA τ 11 k)) u)) := by
  obtain ⟨m, t, e, f, hm, ht, he, e1, e2, e3, e4, h0, h1⟩ := hw
  unfold m_beyond
  rw [rdA_nI hk (by decide), B1_some, rdA_nI hk (by decide), rdA_nI hk (by decide), e1, e3, e4, nN_nI (by omega), nN_nI (by have := h0; have := h1; omega), nN_nI (by omega)]
  by_cases h : e = 0
  · subst h
    rw [if_pos (by rw [nI_0]; exact Int32.le_refl 0), B1_some, B1_some, nI_add]
    unfold wN
    rw [if_pos rfl]
  · have he0 : 0 < e := by omega
    have hf := h1 he0
    have hwt := wt_ge (e := e) (f := f) (u := u) he0
    rw [if_neg (nI_nle he0 (by omega)), B1_some, B1_some, B1_some, nz_ok (nI_ne0 he0 (by omega)), B1_some, B1_some]
    unfold wN
    rw [if_neg h]
    unfold wt
    by_cases hu2 : u ≤ f
    · rw [if_neg (nI_nlt hu2 (by omega)), if_pos hu2, B1_some, B1_some, B1_some, B1_some, nI_add]
    · rw [if_pos (nI_lt (by omega) (by omega)), if_neg hu2, B1_some, B1_some, B1_some, B1_some, B1_some]
      have e5 : nI u - nI f + nI e - 1 = nI (u - f + e - 1) := by
        rw [pk_sub (by omega), nI_add]
        exact pk_sub (b := 1) (by omega)
      rw [e5, pk_div (by omega) he0 (by omega), pk_mul, nI_add, nI_add]
