/-! plain law: texts are read -/
/-- is it a figure up to 48 + m? -/
def fg (c : Int32) (m : Nat) : Prop := 48 ≤ c.toInt ∧ c.toInt ≤ 48 + m
theorem fg_dec (c : Int32) (m : Nat) : fg c m ∨ ¬ fg c m := Classical.em _
section Read
variable {σ σ' τ τ' : St}
theorem in_fg {c hi : Int32} {m : Nat} (hhi : hi.toInt = 48 + m) : (fg c m → c_in c 48 hi = some 1) ∧ (¬ fg c m → c_in c 48 hi = some 0) := by
  have e : (48 : Int32).toInt = 48 := by decide
  constructor
  · intro h
    exact c_in_t (fun g => by rw [i32_lt, e] at g; have := h.1; omega) (fun g => by rw [i32_lt, hhi] at g; have := h.2; omega)
  · intro h
    refine c_in_f ?_
    rw [i32_lt, i32_lt, e, hhi]
    unfold fg at h
    omega
theorem fg_nI {c : Int32} {m : Nat} (h : fg c m) (hm : m ≤ 9) : ∃ ch, 48 ≤ ch ∧ ch ≤ 48 + m ∧ c = nI ch := by
  obtain ⟨j, hj, rfl⟩ := nI_of (x := c) (fun g => by
    rw [i32_lt, Int32.toInt_zero] at g
    have := h.1
    omega)
  unfold fg at h
  rw [nI_toInt hj] at h
  exact ⟨j, by omega, by omega, rfl⟩
theorem isFig_y {k n p m : Nat} (hL : cL σ k = some n) (hn : n ≤ 40) (hp : p < n) (hm : m ≤ 9) (h : fg (cA σ k p) m) : c_isFigure σ k (nI p) (nI m) = some 1 := by
  have hhi : ((48 : Int32) + nI m).toInt = 48 + m := by
    rw [show (48 : Int32) + nI m = nI (48 + m) from nI_add 48 m, nI_toInt (by omega)]
    omega
  unfold c_isFigure
  rw [hL, B1_some, if_neg (nI_ge hp (by omega)), rdD_nI hL hp (by omega), B1_some, (in_fg hhi).1 h, B1_some, if_neg k10, B1_some, bZ_1, B1_some]
theorem isFig_n {k n p m : Nat} (hL : cL σ k = some n) (hn : n ≤ 40) (hp : p ≤ n) (hm : m ≤ 9) (h : ¬ (p < n ∧ fg (cA σ k p) m)) : c_isFigure σ k (nI p) (nI m) = some 0 := by
  have hhi : ((48 : Int32) + nI m).toInt = 48 + m := by
    rw [show (48 : Int32) + nI m = nI (48 + m) from nI_add 48 m, nI_toInt (by omega)]
    omega
  unfold c_isFigure
  rw [hL, B1_some]
  by_cases hpn : p = n
  · subst hpn
    rw [if_pos (Int32.le_refl _), B1_some, bZ_0, B1_some]
  · have hp2 : p < n := by omega
    rw [if_neg (nI_ge hp2 (by omega)), rdD_nI hL hp2 (by omega), B1_some, (in_fg hhi).2 (fun g => h ⟨hp2, g⟩), B1_some, if_pos k00, B1_some, bZ_0, B1_some]
theorem digits_is {t n p : Nat} (ht : t < 4) (hn : n ≤ 40) (hL : cL σ (110 + t) = some n) (htx : ∀ j, j < n → cA σ (110 + t) j = cA τ 10 (40 * t + j)) (hp : p ≤ n) :
    ∃ j vv, p + j ≤ n ∧ j ≤ 4 ∧ vv < 10000 ∧ (j = 0 ↔ ¬ (p < n ∧ fg (cA σ (110 + t) p) 9)) ∧ lq3 (c_read_L18 (110 + t) σ) (nI p) 0 0 = some (nI (p + j), nI vv) ∧ lq3 (m_reads_L21 (nI t) (nI n) τ) (nI p) 0 0 = some (nI (p + j), nI j, nI vv) := by
  have key : Sim (lq3 (c_read_L18 (110 + t) σ) (nI p) 0 0) (lq3 (m_reads_L21 (nI t) (nI n) τ) (nI p) 0 0) (fun x y => ∃ j vv, p + j ≤ n ∧ j ≤ 4 ∧ vv < 10000 ∧ (j = 0 ↔ ¬ (p < n ∧ fg (cA σ (110 + t) p) 9)) ∧ x = (nI (p + j), nI vv) ∧ y = (nI (p + j), nI j, nI vv)) := by
    unfold lq3
    refine lp_sim 4 (fun j (x : Int32 × Int32 × Int32) (y : Int32 × Int32 × Int32) => j ≤ 4 ∧ p + j ≤ n ∧ ∃ vv, vv < 10 ^ j ∧ x = (nI (p + j), nI vv, nI j) ∧ y = (nI (p + j), nI j, nI vv) ∧ (0 < j → p < n ∧ fg (cA σ (110 + t) p) 9)) _ ?_ (i := 0) ⟨by omega, by omega, 0, by decide, rfl, rfl, fun g => absurd g (Nat.lt_irrefl 0)⟩
    rintro j _ _ ⟨hj, hpj, vv, hvv, rfl, rfl, hpos⟩
    have hv10 : vv < 10000 := Nat.lt_of_lt_of_le hvv (Nat.pow_le_pow_right (by decide) hj)
    have hQ : (j = 0 → ¬ (p < n ∧ fg (cA σ (110 + t) p) 9)) → ∃ j' vv', p + j' ≤ n ∧ j' ≤ 4 ∧ vv' < 10000 ∧ (j' = 0 ↔ ¬ (p < n ∧ fg (cA σ (110 + t) p) 9)) ∧ (nI (p + j), nI vv) = (nI (p + j'), nI vv') ∧ (nI (p + j), nI j, nI vv) = (nI (p + j'), nI j', nI vv') := fun h0 => by
      refine ⟨j, vv, hpj, hj, hv10, ⟨h0, fun g => ?_⟩, rfl, rfl⟩
      exact Classical.byContradiction fun q => g (hpos (by omega))
    by_cases h4 : j = 4
    · subst h4
      refine Or.inr ⟨(nI (p + 4), nI vv), (nI (p + 4), nI 4, nI vv), ?_, ?_, hQ (fun g => absurd g (by decide))⟩
      · show c_read_L18 (110 + t) σ (nI (p + 4)) (nI vv) (nI 4) = _
        unfold c_read_L18
        rw [if_pos (by decide)]
      · show m_reads_L21 (nI t) (nI n) τ (nI (p + 4)) (nI 4) (nI vv) = _
        unfold m_reads_L21
        by_cases g : nI n ≤ nI (p + 4)
        · rw [if_pos g]
        · rw [if_neg g, if_pos (by decide)]
    · have hj4 : j < 4 := by omega
      by_cases hf : p + j < n ∧ fg (cA σ (110 + t) (p + j)) 9
      · obtain ⟨ch, hc1, hc2, ec⟩ := fg_nI hf.2 (by decide)
        have hval : 10 * nI vv + nI ch - 48 = nI (10 * vv + (ch - 48)) := by
          rw [show (10 : Int32) * nI vv = nI (10 * vv) from pk_mul 10 vv, nI_add]
          rw [show nI (10 * vv + ch) - 48 = nI (10 * vv + ch - 48) from pk_sub (b := 48) (by omega)]
          congr 1
          omega
        refine Or.inl ⟨hj4, (nI (p + j) + 1, 10 * nI vv + nI ch - 48, nI j + 1), (nI (p + j) + 1, nI j + 1, 10 * nI vv + nI ch - 48), ?_, ?_, by omega, by omega, 10 * vv + (ch - 48), ?_, ?_, ?_, fun _ => ?_⟩
        · show c_read_L18 (110 + t) σ (nI (p + j)) (nI vv) (nI j) = _
          unfold c_read_L18
          rw [if_neg (show ¬ (4 : Int32) ≤ nI j from nI_ge (b := 4) hj4 (by decide)), show c_isFigure σ (110 + t) (nI (p + j)) 9 = some 1 from isFig_y (m := 9) hL hn hf.1 (by decide) hf.2, B1_some, if_neg k10, rdD_nI hL hf.1 (by omega), B1_some, ec]
        · show m_reads_L21 (nI t) (nI n) τ (nI (p + j)) (nI j) (nI vv) = _
          unfold m_reads_L21 m_isDigit
          have r10 : rdA 160 τ 10 (40 * nI t + nI (p + j)) = some (nI ch) := by rw [ix40, rdA_nI (by omega) (by decide), ← htx _ hf.1, ec]
          have hin : m_in (nI ch) 48 57 = some 1 := by
            rw [m_in_c]
            exact (in_fg (m := 9) (by decide)).1 (by rw [← ec]; exact hf.2)
          rw [if_neg (nI_ge hf.1 (by omega)), if_neg (show ¬ (4 : Int32) ≤ nI j from nI_ge (b := 4) hj4 (by decide)), r10, B1_some, hin, B1_some, bZ_1, B1_some, B1_some, if_neg k10, B1_some]
        · rw [Nat.pow_succ]
          omega
        · rw [hval, nI_1, nI_1]
          rfl
        · rw [hval, nI_1, nI_1]
          rfl
        · by_cases q : j = 0
          · subst q
            exact hf
          · exact hpos (by omega)
      · refine Or.inr ⟨(nI (p + j), nI vv), (nI (p + j), nI j, nI vv), ?_, ?_, hQ (fun g => by subst g; exact hf)⟩
        · show c_read_L18 (110 + t) σ (nI (p + j)) (nI vv) (nI j) = _
          unfold c_read_L18
          rw [if_neg (show ¬ (4 : Int32) ≤ nI j from nI_ge (b := 4) hj4 (by decide)), show c_isFigure σ (110 + t) (nI (p + j)) 9 = some 0 from isFig_n (m := 9) hL hn hpj (by decide) hf, B1_some, if_pos k00]
        · show m_reads_L21 (nI t) (nI n) τ (nI (p + j)) (nI j) (nI vv) = _
          unfold m_reads_L21 m_isDigit
          by_cases hpn : p + j = n
          · rw [if_pos (by rw [hpn]; exact Int32.le_refl _)]
          · have hp2 : p + j < n := by omega
            have r10 : rdA 160 τ 10 (40 * nI t + nI (p + j)) = some (cA σ (110 + t) (p + j)) := by rw [ix40, rdA_nI (by omega) (by decide), ← htx _ hp2]
            have hin : m_in (cA σ (110 + t) (p + j)) 48 57 = some 0 := by
              rw [m_in_c]
              exact (in_fg (m := 9) (by decide)).2 (fun g => hf ⟨hp2, g⟩)
            rw [if_neg (nI_ge hp2 (by omega)), if_neg (show ¬ (4 : Int32) ≤ nI j from nI_ge (b := 4) hj4 (by decide)), r10, B1_some, hin, B1_some, bZ_0, B1_some, B1_some, if_pos k00]
  obtain ⟨x, y, k1, k2, j, vv, h1, h2, h3, h4, rfl, rfl⟩ := key
  exact ⟨j, vv, h1, h2, h3, h4, k1, k2⟩
theorem sys_congr {W Y V W' Y' V' : Nat → Int32} {base : Nat} : ∀ (m b : Nat), (∀ k, k < m → W (base + k) = W' (base + k) ∧ Y (base + k) = Y' (base + k) ∧ V (base + k) = V' (base + k)) → sys W Y V base m b = sys W' Y' V' base m b
  | 0, _, _ => rfl
  | m + 1, b, h => by
    rw [sys, sys, (h m (by omega)).1, (h m (by omega)).2.1, (h m (by omega)).2.2, sys_congr m b (fun k hk => h k (by omega))]
/-- the items so far on both sides -/
def ItS (σ τ σ' τ' : St) (m : Nat) : Prop := ScC σ σ' ∧ ScM τ τ' ∧ cI σ' 7 = nI m ∧ (∀ k, k < m → itOk (cA σ' 8) (cA σ' 9) (cA σ' 10) (0 + k)) ∧ ∀ b, b < 18 → cA τ' 44 b = sys (cA σ' 8) (cA σ' 9) (cA σ' 10) 0 m b
theorem ItS.add {m w y v ab : Nat} (h : ItS σ τ σ' τ' m) (hm : m < 20) (hw : w < 4) (hy : y < 8) (hv : v < 10000) (hab : ab = abt (nI w) (nI y)) : ItS σ τ (sI (sA (sA (sA σ' 8 m (nI w)) 9 m (nI y)) 10 m (nI v)) 7 (nI (m + 1))) (sA τ' 44 ab (nI v)) (m + 1) := by
  obtain ⟨h1, h2, h3, h4, h5⟩ := h
  refine ⟨ScC.wI (((h1.wA (by decide)).wA (by decide)).wA (by decide)) (by decide), h2.wA (by decide), rfl, fun k hk => ?_, fun b hb => ?_⟩
  · show itOk (upd (cA σ' 8) m (nI w)) (upd (cA σ' 9) m (nI y)) (upd (cA σ' 10) m (nI v)) (0 + k)
    rw [Nat.zero_add]
    by_cases q : k = m
    · subst q
      exact ⟨w, y, v, hw, hy, hv, upd_at _ _ _, upd_at _ _ _, upd_at _ _ _⟩
    · unfold itOk
      rw [upd_ne _ q, upd_ne _ q, upd_ne _ q]
      have := h4 k (by omega)
      rw [Nat.zero_add] at this
      exact this
  · show upd (cA τ' 44) ab (nI v) b = sys (upd (cA σ' 8) m (nI w)) (upd (cA σ' 9) m (nI y)) (upd (cA σ' 10) m (nI v)) 0 (m + 1) b
    rw [sys, Nat.zero_add, upd_at, upd_at, upd_at, ← hab]
    by_cases q : ab = b
    · rw [if_pos q, q, upd_at]
    · rw [if_neg q, upd_ne _ (Ne.symm q), h5 b hb]
      exact sys_congr m b (fun k hk => by
        rw [Nat.zero_add, upd_ne _ (by omega), upd_ne _ (by omega), upd_ne _ (by omega)]
        exact ⟨rfl, rfl, rfl⟩)
/-- what the loops of both readers leave with -/
def RdQ (σ τ : St) (x y : St ⊕ (Int32 × St)) : Prop := ∃ m σ' τ', m ≤ 20 ∧ ItS σ τ σ' τ' m ∧ ((x = Sum.inl σ' ∧ y = Sum.inl τ') ∨ ∃ p, p ≤ 40 ∧ x = Sum.inr (nI p, σ') ∧ y = Sum.inr (nI p, τ'))
theorem read_tail {t n i p m w y ab : Nat} (ht : t < 4) (hn : n ≤ 40) (hL : cL σ (110 + t) = some n) (htx : ∀ j, j < n → cA σ (110 + t) j = cA τ 10 (40 * t + j)) (hS : ItS σ τ σ' τ' m) (hm : 2 * m ≤ i) (hip : i < p) (hp : p ≤ n) (hw : w < 4) (hy : y < 8) (hab : ab = abt (nI w) (nI y)) (hab18 : ab < 18) :
    (∃ σ2 τ2 j, j ≤ n ∧ i < j ∧ c_read_K13 (110 + t) σ' (nI w) (nI p) (nI y) = some (Sum.inl (σ2, nI j)) ∧ m_reads_K18 (nI t) (nI n) τ' (nI p) (nI ab) = some (Sum.inl (τ2, nI j)) ∧ ∃ m2, 2 * m2 ≤ j ∧ ItS σ τ σ2 τ2 m2) ∨
    (c_read_K13 (110 + t) σ' (nI w) (nI p) (nI y) = some (Sum.inr (Sum.inr (nI p, σ'))) ∧ m_reads_K18 (nI t) (nI n) τ' (nI p) (nI ab) = some (Sum.inr (Sum.inr (nI p, τ')))) := by
  have hc := hS.1
  have hmm := hS.2.1
  have hL' : cL σ' (110 + t) = some n := by rw [hc.2.2.2]; exact hL
  have hA' : cA σ' (110 + t) = cA σ (110 + t) := hc.2.2.1 _ (sc_hi (by omega))
  have hT' : cA τ' 10 = cA τ 10 := hmm.2.2 10 (by decide)
  have htx' : ∀ j, j < n → cA σ' (110 + t) j = cA τ' 10 (40 * t + j) := fun j hj => by rw [hA', hT']; exact htx j hj
  obtain ⟨j, vv, h1, h2, h3, h4, k1, k2⟩ := digits_is (σ := σ') (τ := τ') ht hn hL' htx' hp
  by_cases hf : p < n ∧ fg (cA σ' (110 + t) p) 9
  · have hj : j ≠ 0 := fun g => (h4.mp g) hf
    have hm20 : m < 20 := by omega
    left
    refine ⟨_, _, p + j, h1, by omega, ?_, ?_, m + 1, by omega, hS.add hm20 hw hy h3 hab⟩
    · unfold c_read_K13
      have e7 : cI σ' 7 = nI m := hS.2.2.1
      have c7 : ∀ (s : St) (k i : Nat) (v : Int32), cI (sA s k i v) 7 = cI s 7 := fun _ _ _ _ => rfl
      rw [show c_isFigure σ' (110 + t) (nI p) 9 = some 1 from isFig_y (m := 9) hL' hn hf.1 (by decide) hf.2, B1_some, if_neg k10, k1, B2_some, e7, wrA_nI hm20 (by decide), B1_some, c7, e7, wrA_nI hm20 (by decide), B1_some, c7, c7, e7, wrA_nI hm20 (by decide), B1_some, c7, c7, c7, e7, nI_1]
    · unfold m_reads_K18
      rw [k2, B3_some, if_neg (nI_ne0 (by omega) (by omega)), wrA_nI hab18 (by decide), B1_some]
  · have hj : j = 0 := h4.mpr hf
    subst hj
    right
    constructor
    · unfold c_read_K13
      rw [show c_isFigure σ' (110 + t) (nI p) 9 = some 0 from isFig_n (m := 9) hL' hn hp (by decide) hf, B1_some, if_pos k00]
    · unfold m_reads_K18
      rw [k2, B3_some, if_pos nI_0]
      rfl
theorem whatOf_is (c : Int32) : c_whatOf c = some (if c = 70 then 0 else if c = 68 then 1 else if c = 72 then 2 else if c = 82 then 3 else -9) := by
  unfold c_whatOf
  by_cases h1 : c = 70
  · rw [if_pos h1, if_pos h1, B1_some]
  rw [if_neg h1, if_neg h1]
  by_cases h2 : c = 68
  · rw [if_pos h2, if_pos h2, B1_some]
  rw [if_neg h2, if_neg h2]
  by_cases h3 : c = 72
  · rw [if_pos h3, if_pos h3, B1_some]
  rw [if_neg h3, if_neg h3]
  by_cases h4 : c = 82
  · rw [if_pos h4, if_pos h4, B1_some]
  rw [if_neg h4, if_neg h4, B1_some]
/-- an item that names a yard -/
theorem read_yard {t n i m w ab0 : Nat} {c : Int32} (ht : t < 4) (hn : n ≤ 40) (hL : cL σ (110 + t) = some n) (htx : ∀ j, j < n → cA σ (110 + t) j = cA τ 10 (40 * t + j)) (hS : ItS σ τ σ' τ' m) (hm : 2 * m ≤ i) (hin : i < n) (hw : w < 2) (hab0 : ab0 = 8 * w) {mk : Option ((St × Int32) ⊕ (St ⊕ (Int32 × St)))} {ck : Option ((St × Int32) ⊕ (St ⊕ (Int32 × St)))}
    (hck : ck = (B1 (c_isFigure σ' (110 + t) (nI i + 1) 7) fun v35 => if v35 = 0 then some (Sum.inr (Sum.inr (nI i + 1, σ'))) else (B1 (rdD σ' (110 + t) (nI i + 1)) fun v36 => c_read_K13 (110 + t) σ' (nI w) ((nI i + 1) + 1) (v36 - 48))))
    (hmk : mk = (if (nI i + 1) = nI n then some (Sum.inr (Sum.inr (nI i + 1, τ'))) else (B1 (rdA 160 τ' 10 ((40 * nI t) + (nI i + 1))) fun v36 => B1 (m_in v36 48 55) fun v39 => if v39 = 0 then some (Sum.inr (Sum.inr (nI i + 1, τ'))) else (B1 (rdA 160 τ' 10 ((40 * nI t) + (nI i + 1))) fun v40 => m_reads_K18 (nI t) (nI n) τ' ((nI i + 1) + 1) (nI ab0 + (v40 - 48)))))) :
    (∃ σ2 τ2 j, j ≤ n ∧ i < j ∧ ck = some (Sum.inl (σ2, nI j)) ∧ mk = some (Sum.inl (τ2, nI j)) ∧ ∃ m2, 2 * m2 ≤ j ∧ ItS σ τ σ2 τ2 m2) ∨ (∃ p, p ≤ 40 ∧ ck = some (Sum.inr (Sum.inr (nI p, σ'))) ∧ mk = some (Sum.inr (Sum.inr (nI p, τ')))) := by
  have hc := hS.1
  have hmm := hS.2.1
  have hL' : cL σ' (110 + t) = some n := by rw [hc.2.2.2]; exact hL
  have hA' : cA σ' (110 + t) = cA σ (110 + t) := hc.2.2.1 _ (sc_hi (by omega))
  have hT' : cA τ' 10 = cA τ 10 := hmm.2.2 10 (by decide)
  have htx' : ∀ j, j < n → cA σ' (110 + t) j = cA τ' 10 (40 * t + j) := fun j hj => by rw [hA', hT']; exact htx j hj
  rw [nI_1] at hck hmk
  by_cases hf : i + 1 < n ∧ fg (cA σ' (110 + t) (i + 1)) 7
  · obtain ⟨ch, hc1, hc2, ec⟩ := fg_nI hf.2 (by decide)
    have r10 : rdA 160 τ' 10 (40 * nI t + nI (i + 1)) = some (nI ch) := by rw [ix40, rdA_nI (by omega) (by decide), ← htx' _ hf.1, ec]
    have hinn : m_in (nI ch) 48 55 = some 1 := by
      rw [m_in_c]
      exact (in_fg (m := 7) (by decide)).1 (by rw [← ec]; exact hf.2)
    have hsub : nI ch - 48 = nI (ch - 48) := pk_sub (b := 48) (by omega)
    have hab : ab0 + (ch - 48) = abt (nI w) (nI (ch - 48)) := by
      have : w = 0 ∨ w = 1 := by omega
      unfold abt
      rw [nN_nI (by omega)]
      rcases this with rfl | rfl
      · rw [if_pos (by decide)]; omega
      · rw [if_neg (by decide), if_pos (by decide)]; omega
    rw [show c_isFigure σ' (110 + t) (nI (i + 1)) 7 = some 1 from isFig_y (m := 7) hL' hn hf.1 (by decide) hf.2, B1_some, if_neg k10, rdD_nI hL' hf.1 (by omega), B1_some, ec, hsub, nI_1] at hck
    rw [if_neg (fun g => by have := (nI_eq (by omega) (by omega)).mp g; omega), r10, B1_some, hinn, B1_some, if_neg k10, B1_some, hsub, nI_add, nI_1] at hmk
    rcases read_tail (i := i) (p := i + 1 + 1) (w := w) (y := ch - 48) (ab := ab0 + (ch - 48)) ht hn hL htx hS hm (by omega) (by omega) (by omega) (by omega) hab (by omega) with ⟨σ2, τ2, j, g1, g2, g3, g4, g5⟩ | ⟨g1, g2⟩
    · exact Or.inl ⟨σ2, τ2, j, g1, g2, hck.trans g3, hmk.trans g4, g5⟩
    · exact Or.inr ⟨i + 1 + 1, by omega, hck.trans g1, hmk.trans g2⟩
  · right
    refine ⟨i + 1, by omega, ?_, ?_⟩
    · rw [hck, show c_isFigure σ' (110 + t) (nI (i + 1)) 7 = some 0 from isFig_n (m := 7) hL' hn (by omega) (by decide) hf, B1_some, if_pos k00]
    · rw [hmk]
      by_cases hpn : i + 1 = n
      · rw [if_pos (by rw [hpn])]
      · have hp2 : i + 1 < n := by omega
        have r10 : rdA 160 τ' 10 (40 * nI t + nI (i + 1)) = some (cA σ' (110 + t) (i + 1)) := by rw [ix40, rdA_nI (by omega) (by decide), ← htx' _ hp2]
        have hinn : m_in (cA σ' (110 + t) (i + 1)) 48 55 = some 0 := by
          rw [m_in_c]
          exact (in_fg (m := 7) (by decide)).2 (fun g => hf ⟨hp2, g⟩)
        rw [if_neg (fun g => hpn ((nI_eq (by omega) (by omega)).mp g)), r10, B1_some, hinn, B1_some, if_pos k00]
end Read
