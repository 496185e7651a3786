/-! plain law: rent -/
def mnr (f : Nat → Nat) : Nat → Option Nat
  | 0 => none
  | j + 1 => match mnr f j with
    | none => some (f j)
    | some m => some (if m ≤ f j then m else f j)
theorem mnr_s (f : Nat → Nat) : ∀ j, ∃ m, mnr f (j + 1) = some m ∧ (∃ i, i ≤ j ∧ m = f i) ∧ ∀ i, i ≤ j → m ≤ f i
  | 0 => ⟨f 0, rfl, ⟨0, by omega, rfl⟩, fun i hi => by
      rw [show i = 0 by omega]
      exact Nat.le_refl _⟩
  | j + 1 => by
    obtain ⟨m, h1, ⟨i, h2, h3⟩, h4⟩ := mnr_s f j
    rw [mnr, h1]
    dsimp only
    by_cases g : m ≤ f (j + 1)
    · rw [if_pos g]
      refine ⟨m, rfl, ⟨i, by omega, h3⟩, fun k hk => ?_⟩
      by_cases q : k = j + 1
      · rw [q]; exact g
      · exact h4 k (by omega)
    · rw [if_neg g]
      refine ⟨f (j + 1), rfl, ⟨j + 1, by omega, rfl⟩, fun k hk => ?_⟩
      by_cases q : k = j + 1
      · rw [q]; exact Nat.le_refl _
      · have := h4 k (by omega)
        omega
/-- the cheapest from day n - k on, x rented the day before -/
def vv (P : Nat → Nat → Nat → Nat) (n : Nat) : Nat → Nat → Nat
  | 0, _ => 0
  | k + 1, x => (mnr (fun y => P (n - (k + 1)) y x + vv P n k y) 10).getD 0
def cst (own fee ftc lck r y x : Nat) : Nat := fee * y + ftc * (y - x) + lck * (r - own - y)
theorem cst_le {own fee ftc lck r y x : Nat} (h1 : fee ≤ 1000) (h2 : ftc ≤ 1000) (h3 : lck ≤ 1000) (hr : r < 10) (hy : y < 10) : cst own fee ftc lck r y x ≤ 27000 := by
  unfold cst
  have a1 : fee * y ≤ 1000 * 9 := Nat.mul_le_mul h1 (by omega)
  have a2 : ftc * (y - x) ≤ 1000 * 9 := Nat.mul_le_mul h2 (by omega)
  have a3 : lck * (r - own - y) ≤ 1000 * 9 := Nat.mul_le_mul h3 (by omega)
  omega
theorem vv_le {P : Nat → Nat → Nat → Nat} {n : Nat} (hP : ∀ i y x, i < n → y < 10 → P i y x ≤ 27000) : ∀ k x, k ≤ n → vv P n k x ≤ k * 27000
  | 0, _, _ => Nat.le_refl _
  | k + 1, x, hk => by
    obtain ⟨m, h1, -, h3⟩ := mnr_s (fun y => P (n - (k + 1)) y x + vv P n k y) 9
    rw [vv, h1]
    show m ≤ _
    have a1 := h3 0 (by omega)
    have a2 := hP (n - (k + 1)) 0 x (by omega) (by omega)
    have a3 := vv_le hP k 0 (by omega)
    rw [Nat.add_mul]
    omega
theorem vv_pick (P : Nat → Nat → Nat → Nat) (n k x : Nat) : ∃ y, y < 10 ∧ P (n - (k + 1)) y x + vv P n k y = vv P n (k + 1) x := by
  obtain ⟨m, h1, ⟨i, h2, h3⟩, -⟩ := mnr_s (fun y => P (n - (k + 1)) y x + vv P n k y) 9
  refine ⟨i, by omega, ?_⟩
  rw [vv, h1]
  exact h3.symm
section Rent
variable {σ σ' τ τ' : St}
def nL (a : Nat) : Int64 := (nI a).toInt64
theorem nL_toInt {a : Nat} (h : a < 2 ^ 31) : (nL a).toInt = (a : Int) := by
  unfold nL
  rw [Jvm.Kit.i64_of_i32, nI_toInt h]
theorem nL_add {a b : Nat} (h : a + b < 2 ^ 31) : nL a + nL b = nL (a + b) := by
  apply Int64.toInt_inj.mp
  have h1 := nL_toInt (a := a) (by omega)
  have h2 := nL_toInt (a := b) (by omega)
  rw [Jvm.Kit.i64_add (by rw [h1, h2]; omega) (by rw [h1, h2]; omega), h1, h2, nL_toInt h]
  omega
theorem nL_mul {a b : Nat} (ha : a < 2 ^ 31) (hb : b < 2 ^ 31) (h : a * b < 2 ^ 31) : nL a * nL b = nL (a * b) := by
  apply Int64.toInt_inj.mp
  have h1 := nL_toInt ha
  have h2 := nL_toInt hb
  have h3 : (a : Int) * b = ((a * b : Nat) : Int) := (Int.natCast_mul a b).symm
  rw [Jvm.Kit.i64_mul (by rw [h1, h2, h3]; omega) (by rw [h1, h2, h3]; omega), h1, h2, nL_toInt h, h3]
theorem nL_n0 {m : Nat} (h : m < 2 ^ 31) : ¬ lg_cmp (nL m) 0 < 0 := by
  rw [lg_cmp_lt, Int64.lt_iff_toInt_lt, nL_toInt h]
  have e0 : (0 : Int64).toInt = 0 := by decide
  omega
theorem nL_le {a b : Nat} (ha : a < 2 ^ 31) (hb : b < 2 ^ 31) : nL a ≤ nL b ↔ a ≤ b := by
  rw [Int64.le_iff_toInt_le, nL_toInt ha, nL_toInt hb]
  omega
theorem nL_eq {a b : Nat} (ha : a < 2 ^ 31) (hb : b < 2 ^ 31) : nL a = nL b ↔ a = b := by
  rw [← Int64.toInt_inj, nL_toInt ha, nL_toInt hb]
  omega
theorem jm0 {a b : Nat} (ha : a < 2 ^ 30) (hb : b < 2 ^ 30) : j_max 0 (nI a - nI b) = some (nI (a - b)) := by
  rw [j_max_is]
  by_cases q : a ≤ b
  · have e : (nI a - nI b).toInt = (a : Int) - b := pk_sub_toInt ha hb
    have q3 : ¬ (0 : Int32) < nI a - nI b := fun q2 => by
      rw [i32_lt, e] at q2
      have e0 : (0 : Int32).toInt = 0 := by decide
      omega
    rw [if_neg q3, show a - b = 0 by omega]
    rfl
  · rw [show nI a - nI b = nI (a - b) from pk_sub (by omega), if_pos (show (0 : Int32) < nI (a - b) from nI_lt (a := 0) (show 0 < a - b by omega) (by omega))]
theorem ix10 (b i : Nat) : 10 * nI b + nI i = nI (10 * b + i) := by
  show nI 10 * nI b + nI i = _
  rw [pk_mul, nI_add]
theorem ix10b (b i : Nat) : 10 * nI b + 10 + nI i = nI (10 * (b + 1) + i) := by
  show nI 10 * nI b + nI 10 + nI i = _
  rw [pk_mul, nI_add, nI_add]
  rfl
theorem rcost_is {own fee ftc lck i r y x v : Nat} (h1 : fee ≤ 1000) (h2 : ftc ≤ 1000) (h3 : lck ≤ 1000) (ho : own < 10) (hr : r < 10) (hy : y < 10) (hx : x < 10) (hi : i < 40) (hv : cA σ 60 (10 * (i + 1) + y) = nI v) : c_rentCost σ (nI i) (nI x) (nI y) (nI r - nI own) (nI fee) (nI ftc) (nI lck) = some (nI (cst own fee ftc lck r y x + v)) := by
  unfold c_rentCost cst
  rw [jm0 (by omega) (by omega), B1_some, show nI r - nI own - nI y = nI r - nI (own + y) by rw [Int32.sub_sub, nI_add], jm0 (by omega) (by omega), B1_some, nI_1, ix10, rdA_nI (by omega) (by decide), B1_some, hv, pk_mul, pk_mul, pk_mul, nI_add, nI_add, nI_add, Nat.sub_sub r own y]
theorem cOf_is {own fee ftc lck r y x : Nat} (h1 : fee ≤ 1000) (h2 : ftc ≤ 1000) (h3 : lck ≤ 1000) (ho : own < 10) (hr : r < 10) (hy : y < 10) (hx : x < 10) : m_costOf (nI y) (nI x) (nI r) (nI own) (nI fee) (nI ftc) (nI lck) = some (nL (cst own fee ftc lck r y x)) := by
  have hc := cst_le (own := own) (x := x) h1 h2 h3 hr hy
  have a1 : fee * y ≤ 1000 * 9 := Nat.mul_le_mul h1 (by omega)
  have a2 : ftc * (y - x) ≤ 1000 * 9 := Nat.mul_le_mul h2 (by omega)
  have a3 : lck * (r - own - y) ≤ 1000 * 9 := Nat.mul_le_mul h3 (by omega)
  have e1 : ((if nI y ≤ nI x then some 0 else some (nI y - nI x)) : Option Int32) = some (nI (y - x)) := by
    by_cases q : y ≤ x
    · rw [if_pos (nI_le q (by omega)), show y - x = 0 by omega]; rfl
    · rw [if_neg (nI_ge (by omega) (by omega)), pk_sub (by omega)]
  have e2 : ((if nI r ≤ nI own + nI y then some 0 else some (nI r - nI own - nI y)) : Option Int32) = some (nI (r - own - y)) := by
    rw [nI_add]
    by_cases q : r ≤ own + y
    · rw [if_pos (nI_le q (by omega)), show r - own - y = 0 by omega]; rfl
    · rw [if_neg (nI_ge (by omega) (by omega)), pk_sub (show own ≤ r by omega), pk_sub (by omega)]
  unfold m_costOf
  rw [e1, B1_some, e2, B1_some]
  show some (nL fee * nL y + nL ftc * nL (y - x) + nL lck * nL (r - own - y)) = _
  rw [nL_mul (by omega) (by omega) (by omega), nL_mul (by omega) (by omega) (by omega), nL_mul (by omega) (by omega) (by omega), nL_add (by omega), nL_add (by omega)]
  rfl
/-- the class' cheapest of one day -/
theorem rent_42 {own fee ftc lck i r y x rr n : Nat} {V : Nat → Nat} (h1 : fee ≤ 1000) (h2 : ftc ≤ 1000) (h3 : lck ≤ 1000) (ho : own < 10) (hr : r < 10) (hx : x < 10) (hi : i < n) (hn : n ≤ 40) (hL : cL σ (100 + rr) = some n) (hrow : cA σ (100 + rr) i = nI r) (hV : ∀ y, y < 10 → cA σ 60 (10 * (i + 1) + y) = nI (V y) ∧ V y ≤ 2000000) : lq2 (c_rent_L42 (nI own) (nI fee) (nI ftc) (nI lck) rr (nI i) σ (nI x)) (-9) 0 = some (nI ((mnr (fun y => cst own fee ftc lck r y x + V y) 10).getD 0)) := by
  have key : ∃ e, lq2 (c_rent_L42 (nI own) (nI fee) (nI ftc) (nI lck) rr (nI i) σ (nI x)) (-9) 0 = some e ∧ e = e9 (mnr (fun y => cst own fee ftc lck r y x + V y) 10) := by
    unfold lq2
    refine lp_forI 10 (fun j (p : Int32 × Int32) => j ≤ 10 ∧ p.2 = nI j ∧ p.1 = e9 (mnr (fun y => cst own fee ftc lck r y x + V y) j)) _ ?_ (i := 0) ⟨by omega, nI_0.symm, rfl⟩
    rintro j ⟨u, z⟩ ⟨hj, hz, hu⟩
    dsimp only at hz hu
    subst hz hu
    by_cases h10 : j = 10
    · subst h10
      refine Or.inr ⟨_, ?_, rfl⟩
      show c_rent_L42 _ _ _ _ rr _ σ _ _ (nI 10) = _
      unfold c_rent_L42
      rw [if_pos (by decide)]
    · have hj2 : j < 10 := by omega
      obtain ⟨v1, v2⟩ := hV j hj2
      have hc := cst_le (own := own) (x := x) h1 h2 h3 hr hj2
      refine Or.inl ⟨hj2, (e9 (mnr (fun y => cst own fee ftc lck r y x + V y) (j + 1)), nI j + 1), ?_, by omega, nI_1 j, rfl⟩
      show c_rent_L42 _ _ _ _ rr _ σ _ _ (nI j) = _
      unfold c_rent_L42
      rw [if_neg (show ¬ (10 : Int32) ≤ nI j from nI_ge (b := 10) hj2 (by decide)), rdD_nI hL hi (by omega), B1_some, hrow, rcost_is h1 h2 h3 ho hr hj2 hx (by omega) v1, B1_some, mnr]
      cases hm : mnr (fun y => cst own fee ftc lck r y x + V y) j with
      | none =>
        rw [if_pos (show e9 none = -9 from rfl), B1_some]
        rfl
      | some m =>
        have hm2 : m ≤ 3000000 := by
          cases j with
          | zero => cases hm
          | succ j =>
            obtain ⟨m', g1, ⟨k, g2, g3⟩, -⟩ := mnr_s (fun y => cst own fee ftc lck r y x + V y) j
            rw [hm] at g1
            cases g1
            have := cst_le (own := own) (x := x) h1 h2 h3 hr (show k < 10 by omega)
            have := (hV k (by omega)).2
            omega
        rw [show e9 (some m) = nI m from rfl, if_neg (nI_n9 (by omega))]
        dsimp only
        by_cases g : m ≤ cst own fee ftc lck r j x + V j
        · rw [if_pos (nI_le g (by omega)), if_pos g, B1_some]
          rfl
        · rw [if_neg (nI_ge (by omega) (by omega)), if_neg g, B1_some]
          rfl
  obtain ⟨e, k1, rfl⟩ := key
  obtain ⟨m, g1, -⟩ := mnr_s (fun y => cst own fee ftc lck r y x + V y) 9
  rw [k1, g1]
  rfl
def eL (o : Option Nat) : Int64 := match o with | none => -1 | some m => nL m
/-- the reference's -/
theorem rent_39 {own fee ftc lck i r x rr n : Nat} {V : Nat → Nat} (h1 : fee ≤ 1000) (h2 : ftc ≤ 1000) (h3 : lck ≤ 1000) (ho : own < 10) (hr : r < 10) (hx : x < 10) (hi : i < n) (hn : n ≤ 40) (hrr : rr < 6) (hrow : cA τ 7 (40 * rr + i) = nI r) (hV : ∀ y, y < 10 → cB τ 71 (10 * (i + 1) + y) = nL (V y) ∧ V y ≤ 2000000) : lq2 (m_rent_L39 (nI rr) (nI own) (nI fee) (nI ftc) (nI lck) (nI i) τ (nI x)) (-1) 0 = some (nL ((mnr (fun y => cst own fee ftc lck r y x + V y) 10).getD 0)) := by
  have key : ∃ e, lq2 (m_rent_L39 (nI rr) (nI own) (nI fee) (nI ftc) (nI lck) (nI i) τ (nI x)) (-1) 0 = some e ∧ e = eL (mnr (fun y => cst own fee ftc lck r y x + V y) 10) := by
    unfold lq2
    refine lp_forI 10 (fun j (p : Int64 × Int32) => j ≤ 10 ∧ p.2 = nI j ∧ p.1 = eL (mnr (fun y => cst own fee ftc lck r y x + V y) j)) _ ?_ (i := 0) ⟨by omega, nI_0.symm, rfl⟩
    rintro j ⟨u, z⟩ ⟨hj, hz, hu⟩
    dsimp only at hz hu
    subst hz hu
    by_cases h10 : j = 10
    · subst h10
      refine Or.inr ⟨_, ?_, rfl⟩
      show m_rent_L39 _ _ _ _ _ _ τ _ _ (nI 10) = _
      unfold m_rent_L39
      rw [if_pos (by decide)]
    · have hj2 : j < 10 := by omega
      obtain ⟨v1, v2⟩ := hV j hj2
      have hc := cst_le (own := own) (x := x) h1 h2 h3 hr hj2
      refine Or.inl ⟨hj2, (eL (mnr (fun y => cst own fee ftc lck r y x + V y) (j + 1)), nI j + 1), ?_, by omega, nI_1 j, rfl⟩
      show m_rent_L39 _ _ _ _ _ _ τ _ _ (nI j) = _
      unfold m_rent_L39
      rw [if_neg (show ¬ (10 : Int32) ≤ nI j from nI_ge (b := 10) hj2 (by decide)), ix40, rdA_nI (by omega) (by decide), B1_some, hrow, cOf_is h1 h2 h3 ho hr hj2 hx, B1_some, ix10b, rdB_nI (by omega) (by decide), B1_some, v1, nL_add (by omega), mnr]
      cases hm : mnr (fun y => cst own fee ftc lck r y x + V y) j with
      | none =>
        rw [if_pos (show lg_cmp (eL none) 0 < 0 by rw [lg_cmp_lt]; decide), B1_some]
        rfl
      | some m =>
        have hm2 : m ≤ 3000000 := by
          cases j with
          | zero => cases hm
          | succ j =>
            obtain ⟨m', g1, ⟨k, g2, g3⟩, -⟩ := mnr_s (fun y => cst own fee ftc lck r y x + V y) j
            rw [hm] at g1
            cases g1
            have := cst_le (own := own) (x := x) h1 h2 h3 hr (show k < 10 by omega)
            have := (hV k (by omega)).2
            omega
        rw [show eL (some m) = nL m from rfl, if_neg (nL_n0 (by omega))]
        dsimp only
        by_cases g : m ≤ cst own fee ftc lck r j x + V j
        · rw [if_pos (by rw [lg_cmp_ge, nL_le (by omega) (by omega)]; exact g), if_pos g, B1_some]
          rfl
        · rw [if_neg (by rw [lg_cmp_ge, nL_le (by omega) (by omega)]; exact g), if_neg g, B1_some]
          rfl
  obtain ⟨e, k1, rfl⟩ := key
  obtain ⟨m, g1, -⟩ := mnr_s (fun y => cst own fee ftc lck r y x + V y) 9
  rw [k1, g1]
  rfl
end Rent
