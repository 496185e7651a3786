/-! plain law: the digest -/
section Dig
variable {σ τ : St}
theorem sJ_sJ (σ : St) (k : Nat) (v v' : Int64) : sJ (sJ σ k v) k v' = sJ σ k v' := by
  unfold sJ
  have e : va_up (va_up σ.2.1 k v) k v' = va_up σ.2.1 k v' := by
    funext j
    unfold va_up
    by_cases h : j = k <;> simp [h]
  simp only [e]
def mx (h : Int64) (v : Int32) : Int64 := 31 * h + v.toInt64
theorem cmix_is (σ : St) (h : Int64) (v : Int32) : c_mix (sJ σ 61 h) v.toInt64 = some (sJ σ 61 (mx h v)) := by
  unfold c_mix
  rw [cJ_sJ, if_pos rfl, sJ_sJ]
  rfl
theorem mmix_is (τ : St) (h : Int64) (v : Int32) : m_mix (sJ τ 72 h) v = some (sJ τ 72 (mx h v)) := by
  unfold m_mix
  rw [cJ_sJ, if_pos rfl, sJ_sJ]
  rfl
theorem R.dg (h : R σ τ) (v : Int64) : R (sJ σ 61 v) (sJ τ 72 v) := h.scr ScC.rfl.wJ ScM.rfl.wJ
/-- two states that differ from σ, τ by the same digest so far -/
def Dg (σ τ : St) (σ' τ' : St) : Prop := ∃ h, σ' = sJ σ 61 h ∧ τ' = sJ τ 72 h
/-- loops over 0..n in step, the digest going along -/
theorem dg_loop {step : St → Int32 → Option ((St × Int32) ⊕ St)} {step' : St → Int32 → Option ((St × Int32) ⊕ St)} (n : Nat) (h1 : ∀ k h, k < n → ∃ h', step (sJ σ 61 h) (nI k) = some (Sum.inl (sJ σ 61 h', nI (k + 1))) ∧ step' (sJ τ 72 h) (nI k) = some (Sum.inl (sJ τ 72 h', nI (k + 1)))) (h2 : ∀ h, step (sJ σ 61 h) (nI n) = some (Sum.inr (sJ σ 61 h)) ∧ step' (sJ τ 72 h) (nI n) = some (Sum.inr (sJ τ 72 h))) (h : Int64) :
    ∃ h', lq2 step (sJ σ 61 h) 0 = some (sJ σ 61 h') ∧ lq2 step' (sJ τ 72 h) 0 = some (sJ τ 72 h') := by
  have key : Sim (lq2 step (sJ σ 61 h) 0) (lq2 step' (sJ τ 72 h) 0) (Dg σ τ) := by
    unfold lq2
    refine lp_sim n (fun k (p q : St × Int32) => k ≤ n ∧ p.2 = nI k ∧ q.2 = nI k ∧ Dg σ τ p.1 q.1) _ ?_ (i := 0) ⟨by omega, nI_0.symm, nI_0.symm, h, rfl, rfl⟩
    rintro k ⟨s, x⟩ ⟨s', x'⟩ ⟨hk, hx, hx', v, e1, e2⟩
    dsimp only at hx hx' e1 e2
    subst hx hx' e1 e2
    by_cases hkn : k = n
    · subst hkn
      exact Or.inr ⟨_, _, (h2 v).1, (h2 v).2, v, rfl, rfl⟩
    · obtain ⟨v', k1, k2⟩ := h1 k v (by omega)
      exact Or.inl ⟨by omega, _, _, k1, k2, by omega, rfl, rfl, v', rfl, rfl⟩
  obtain ⟨a, b, k1, k2, v, rfl, rfl⟩ := key
  exact ⟨v, k1, k2⟩
theorem g7 {k : Nat} (h : k < 8) : ¬ (7 : Int32) < nI k := nI_nlt (a := 7) (b := k) (by omega) (by decide)
theorem g4 {k : Nat} (h : k < 5) : ¬ (4 : Int32) < nI k := nI_nlt (a := 4) (b := k) (by omega) (by decide)
theorem ge5 {k : Nat} (h : k < 5) : ¬ (5 : Int32) ≤ nI k := nI_ge (b := 5) h (by decide)
theorem ge6 {k : Nat} (h : k < 6) : ¬ (6 : Int32) ≤ nI k := nI_ge (b := 6) h (by decide)
theorem ge4 {k : Nat} (h : k < 4) : ¬ (4 : Int32) ≤ nI k := nI_ge (b := 4) h (by decide)
theorem ge64 {k : Nat} (h : k < 64) : ¬ (64 : Int32) ≤ nI k := nI_ge (b := 64) h (by decide)
theorem dg_counts (h : R σ τ) (v : Int64) : ∃ v', lq2 (c_digest_L1) (sJ σ 61 v) 0 = some (sJ σ 61 v') ∧ lq2 (m_digest_L1) (sJ τ 72 v) 0 = some (sJ τ 72 v') := by
  refine dg_loop 8 (fun k u hk => ?_) (fun u => ⟨by unfold c_digest_L1; rw [if_pos (by decide)], by unfold m_digest_L1; rw [if_pos (by decide)]⟩) v
  obtain ⟨x, k1, k2⟩ := counts_is (h.dg u) (nI k)
  refine ⟨mx u x, ?_, ?_⟩
  · unfold c_digest_L1
    rw [if_neg (ge8 hk), k1, B1_some, cmix_is, B1_some, nI_1]
  · unfold m_digest_L1
    rw [if_neg (g7 hk), k2, B1_some, mmix_is, B1_some, nI_1]
/-! ways -/
def mx4 (τ : St) (h : Int64) (k : Nat) : Int64 := mx (mx (mx (mx h (cA τ 11 k)) (cA τ 12 k)) (cA τ 13 k)) (cA τ 14 k)
def mw (τ : St) (h : Int64) : Nat → Int64
  | 0 => h
  | k + 1 => if k / 8 < k % 8 then mx4 τ (mw τ h k) k else mw τ h k
theorem mw_no (h : Int64) (a : Nat) (ha : a < 8) : ∀ j, j ≤ a + 1 → mw τ h (8 * a + j) = mw τ h (8 * a)
  | 0, _ => rfl
  | j + 1, hj => by
    show mw τ h (8 * a + j + 1) = _
    rw [mw, if_neg (by omega)]
    exact mw_no h a ha j (by omega)
theorem dg_waysM (v : Int64) : lq2 (m_digest_L9) (sJ τ 72 v) 0 = some (sJ τ 72 (mw τ v 64)) := by
  have key : ∃ e, lq2 (m_digest_L9) (sJ τ 72 v) 0 = some e ∧ e = sJ τ 72 (mw τ v 64) := by
    unfold lq2
    refine lp_forI 64 (fun k (q : St × Int32) => k ≤ 64 ∧ q.2 = nI k ∧ q.1 = sJ τ 72 (mw τ v k)) _ ?_ (i := 0) ⟨by omega, nI_0.symm, rfl⟩
    rintro k ⟨x, y⟩ ⟨hk, hy, hx⟩
    dsimp only at hy hx
    subst hy hx
    by_cases h64 : k = 64
    · subst h64
      exact Or.inr ⟨_, by show m_digest_L9 _ (nI 64) = _; unfold m_digest_L9; rw [if_pos (by decide)], rfl⟩
    · have hk2 : k < 64 := by omega
      have hdv : nI k / 8 = nI (k / 8) := pk_div (d := 8) (by omega) (by decide) (by decide)
      have hmd : nI k - nI (k / 8) * 8 = nI (k % 8) := by
        rw [← hdv]
        exact pk_rem (d := 8) (by omega) (by decide) (by decide)
      refine Or.inl ⟨hk2, (sJ τ 72 (mw τ v (k + 1)), nI k + 1), ?_, by omega, nI_1 k, rfl⟩
      show m_digest_L9 (sJ τ 72 (mw τ v k)) (nI k) = _
      unfold m_digest_L9
      rw [if_neg (ge64 hk2), hdv, hmd, mw]
      by_cases hlt : k / 8 < k % 8
      · rw [if_neg (nI_ge hlt (by omega)), if_pos hlt]
        simp only [rdA_nI hk2 (show 64 < 2 ^ 31 by decide), B1_some, mmix_is, cA_sJ]
        rfl
      · rw [if_pos (nI_le (by omega) (by omega)), if_neg hlt, B1_some]
  obtain ⟨e, k1, rfl⟩ := key
  exact k1
theorem dg_waysC (h : Req σ τ) (v : Int64) : c_mixWays (sJ σ 61 v) = some (sJ σ 61 (mw τ v 64)) := by
  have key : ∃ e, lq2 (c_mixWays_L1) (sJ σ 61 v) 0 = some e ∧ e = sJ σ 61 (mw τ v 64) := by
    unfold lq2
    refine lp_forI 8 (fun a (q : St × Int32) => a ≤ 8 ∧ q.2 = nI a ∧ q.1 = sJ σ 61 (mw τ v (8 * a))) _ ?_ (i := 0) ⟨by omega, nI_0.symm, rfl⟩
    rintro a ⟨x, y⟩ ⟨ha, hy, hx⟩
    dsimp only at hy hx
    subst hy hx
    by_cases h8 : a = 8
    · subst h8
      exact Or.inr ⟨_, by show c_mixWays_L1 _ (nI 8) = _; unfold c_mixWays_L1; rw [if_pos (by decide)], rfl⟩
    · have ha8 : a < 8 := by omega
      have inner : ∃ e, lq2 (c_mixWays_L5 (nI a)) (sJ σ 61 (mw τ v (8 * a))) (nI (a + 1)) = some e ∧ e = sJ σ 61 (mw τ v (8 * (a + 1))) := by
        unfold lq2
        refine lp_forI 8 (fun b (q : St × Int32) => b ≤ 8 ∧ a + 1 ≤ b ∧ q.2 = nI b ∧ q.1 = sJ σ 61 (mw τ v (8 * a + b))) _ ?_ (i := a + 1) ⟨by omega, by omega, rfl, by rw [mw_no v a ha8 (a + 1) (Nat.le_refl _)]⟩
        rintro b ⟨x, y⟩ ⟨hb, hab, hy, hx⟩
        dsimp only at hy hx
        subst hy hx
        by_cases hb8 : b = 8
        · subst hb8
          exact Or.inr ⟨sJ σ 61 (mw τ v (8 * a + 8)), by show c_mixWays_L5 (nI a) _ (nI 8) = _; unfold c_mixWays_L5; rw [if_pos (by decide)], rfl⟩
        · have hk : 8 * a + b < 64 := by omega
          refine Or.inl ⟨by omega, (sJ σ 61 (mw τ v (8 * a + (b + 1))), nI b + 1), ?_, by omega, by omega, nI_1 b, rfl⟩
          show c_mixWays_L5 (nI a) (sJ σ 61 (mw τ v (8 * a + b))) (nI b) = _
          unfold c_mixWays_L5
          rw [if_neg (ge8 (by omega)), ix8]
          have e2 : mw τ v (8 * a + (b + 1)) = mx4 τ (mw τ v (8 * a + b)) (8 * a + b) := by
            show mw τ v (8 * a + b + 1) = _
            rw [mw, if_pos (by omega)]
          rw [e2]
          simp only [rdA_nI hk (show 64 < 2 ^ 31 by decide), B1_some, cmix_is, cA_sJ, h.A 12 11 (by decide), h.A 13 12 (by decide), h.A 14 13 (by decide), h.A 15 14 (by decide)]
          rfl
      obtain ⟨e, k1, rfl⟩ := inner
      refine Or.inl ⟨ha8, (sJ σ 61 (mw τ v (8 * (a + 1))), nI a + 1), ?_, by omega, nI_1 a, rfl⟩
      show c_mixWays_L1 (sJ σ 61 (mw τ v (8 * a))) (nI a) = _
      unfold c_mixWays_L1
      rw [if_neg (ge8 ha8), nI_1, k1, B1_some]
  obtain ⟨e, k1, rfl⟩ := key
  unfold c_mixWays
  rw [k1, B1_some]
theorem dg_trailers (h : R σ τ) (v : Int64) : ∃ v', lq2 (c_digest_L11) (sJ σ 61 v) 0 = some (sJ σ 61 v') ∧ lq2 (m_digest_L31) (sJ τ 72 v) 0 = some (sJ τ 72 v') := by
  obtain ⟨w, n, N, q, hw⟩ := h.rw
  have hn := hw.1.2.1
  refine dg_loop n (fun t u ht => ?_) (fun u => ⟨?_, ?_⟩) v
  · have ht12 : t < 12 := by omega
    obtain ⟨w, n', N, q, hw'⟩ := (h.dg u).rw
    have hin : ∃ u', lq2 (c_digest_L15 (nI t)) (sJ σ 61 u) 0 = some (sJ σ 61 u') ∧ lq2 (m_digest_L35 (nI t)) (sJ τ 72 u) 0 = some (sJ τ 72 u') := by
      refine dg_loop 8 (fun k x hk => ?_) (fun x => ⟨by unfold c_digest_L15; rw [if_pos (by decide)], by unfold m_digest_L35; rw [if_pos (by decide)]⟩) u
      obtain ⟨y, k1, k2⟩ := tells_is (σ := sJ σ 61 x) (τ := sJ τ 72 x) (hw.2.2.2.1.1 t ht) ht12 (nI k)
      obtain ⟨kd, hkd, hL, -⟩ := hw.2.2.2.1.1 t ht
      refine ⟨mx x y, ?_, ?_⟩
      · unfold c_digest_L15
        rw [if_neg (ge8 hk), ixD_is (σ := sJ σ 61 x) ht12 (by decide) hL, B1_some, k1, B1_some, cmix_is, B1_some, nI_1]
      · unfold m_digest_L35
        rw [if_neg (g7 hk), k2, B1_some, mmix_is, B1_some, nI_1]
    obtain ⟨u', k1, k2⟩ := hin
    refine ⟨u', ?_, ?_⟩
    · unfold c_digest_L11
      rw [show cI (sJ σ 61 u) 19 = nI n from hw.c19, if_neg (nI_ge ht (by omega)), k1, B1_some, nI_1]
    · unfold m_digest_L31
      rw [show cI (sJ τ 72 u) 16 = nI n from hw.m16, if_neg (nI_ge ht (by omega)), k2, B1_some, nI_1]
  · unfold c_digest_L11
    rw [show cI (sJ σ 61 u) 19 = nI n from hw.c19, if_pos (Int32.le_refl _)]
  · unfold m_digest_L31
    rw [show cI (sJ τ 72 u) 16 = nI n from hw.m16, if_pos (Int32.le_refl _)]
theorem dg_tractors (h : R σ τ) (v : Int64) : ∃ v', lq2 (c_digest_L25) (sJ σ 61 v) 0 = some (sJ σ 61 v') ∧ lq2 (m_digest_L43) (sJ τ 72 v) 0 = some (sJ τ 72 v') := by
  refine dg_loop 6 (fun t u ht => ?_) (fun u => ⟨by unfold c_digest_L25; rw [if_pos (by decide)], by unfold m_digest_L43; rw [if_pos (by decide)]⟩) v
  have hin : ∃ u', lq2 (c_digest_L29 (nI t)) (sJ σ 61 u) 0 = some (sJ σ 61 u') ∧ lq2 (m_digest_L47 (nI t)) (sJ τ 72 u) 0 = some (sJ τ 72 u') := by
    refine dg_loop 5 (fun k x hk => ?_) (fun x => ⟨by unfold c_digest_L29; rw [if_pos (by decide)], by unfold m_digest_L47; rw [if_pos (by decide)]⟩) u
    obtain ⟨y, k1, k2⟩ := tTells_is (h.dg x) ht (nI k)
    refine ⟨mx x y, ?_, ?_⟩
    · unfold c_digest_L29
      rw [if_neg (ge5 hk), k1, B1_some, cmix_is, B1_some, nI_1]
    · unfold m_digest_L47
      rw [if_neg (g4 hk), k2, B1_some, mmix_is, B1_some, nI_1]
  obtain ⟨u', k1, k2⟩ := hin
  refine ⟨u', ?_, ?_⟩
  · unfold c_digest_L25
    rw [if_neg (ge6 ht), k1, B1_some, nI_1]
  · unfold m_digest_L43
    rw [if_neg (ge6 ht), k2, B1_some, nI_1]
theorem dg_entries (h : R σ τ) (v : Int64) : ∃ v', lq2 (c_digest_L37) (sJ σ 61 v) 0 = some (sJ σ 61 v') ∧ lq2 (m_digest_L55) (sJ τ 72 v) 0 = some (sJ τ 72 v') := by
  obtain ⟨w, n, N, q, hw⟩ := h.rw
  have hN := hw.1.2.2.1
  refine dg_loop N (fun e u he => ?_) (fun u => ⟨?_, ?_⟩) v
  · have he60 : e < 60 := by omega
    refine ⟨mx (mx (mx (mx u (cA τ 35 e)) (cA τ 36 e)) (cA τ 37 e)) (cA τ 38 e), ?_, ?_⟩
    · unfold c_digest_L37
      rw [show cI (sJ σ 61 u) 22 = nI N from hw.c22, if_neg (nI_ge he (by omega))]
      simp only [rdA_nI he60 l60, B1_some, cmix_is, cA_sJ, h.eq.A 23 35 (by decide), h.eq.A 24 36 (by decide), h.eq.A 25 37 (by decide), h.eq.A 26 38 (by decide), nI_1]
    · unfold m_digest_L55
      rw [show cI (sJ τ 72 u) 34 = nI N from hw.m34, if_neg (nI_ge he (by omega))]
      simp only [rdA_nI he60 l60, B1_some, mmix_is, cA_sJ, nI_1]
  · unfold c_digest_L37
    rw [show cI (sJ σ 61 u) 22 = nI N from hw.c22, if_pos (Int32.le_refl _)]
  · unfold m_digest_L55
    rw [show cI (sJ τ 72 u) 34 = nI N from hw.m34, if_pos (Int32.le_refl _)]
theorem dg_terms (h : R σ τ) (v : Int64) : ∃ v', lq2 (c_digest_L57) (sJ σ 61 v) 0 = some (sJ σ 61 v') ∧ lq2 (m_digest_L75) (sJ τ 72 v) 0 = some (sJ τ 72 v') := by
  obtain ⟨w, n, N, q, hw⟩ := h.rw
  have hq := hw.1.2.2.2.1
  have m40 : cI τ 40 = nI q := hw.1.2.2.2.2.2.2.2
  have c33 : cI σ 33 = nI q := (h.eq.I 33 40 (by decide)).trans m40
  refine dg_loop q (fun e u he => ?_) (fun u => ⟨?_, ?_⟩) v
  · have he20 : e < 20 := by omega
    refine ⟨mx (mx u (cA τ 41 e)) (cA τ 42 e), ?_, ?_⟩
    · unfold c_digest_L57
      rw [show cI (sJ σ 61 u) 33 = nI q from c33, if_neg (nI_ge he (by omega))]
      simp only [rdA_nI he20 (show 20 < 2 ^ 31 by decide), B1_some, cmix_is, cA_sJ, h.eq.A 34 41 (by decide), h.eq.A 35 42 (by decide), nI_1]
    · unfold m_digest_L75
      rw [show cI (sJ τ 72 u) 40 = nI q from m40, if_neg (nI_ge he (by omega))]
      simp only [rdA_nI he20 (show 20 < 2 ^ 31 by decide), B1_some, mmix_is, cA_sJ, nI_1]
  · unfold c_digest_L57
    rw [show cI (sJ σ 61 u) 33 = nI q from c33, if_pos (Int32.le_refl _)]
  · unfold m_digest_L75
    rw [show cI (sJ τ 72 u) 40 = nI q from m40, if_pos (Int32.le_refl _)]
theorem m1_64 : (-1 : Int32).toInt64 = -1 := by decide
theorem dg_rows (h : R σ τ) (v : Int64) : ∃ v', lq2 (c_digest_L73) (sJ σ 61 v) 0 = some (sJ σ 61 v') ∧ lq2 (m_digest_L91) (sJ τ 72 v) 0 = some (sJ τ 72 v') := by
  refine dg_loop 6 (fun r u hr => ?_) (fun u => ⟨by unfold c_digest_L73; rw [if_pos (by decide)], by unfold m_digest_L91; rw [if_pos (by decide)]⟩) v
  rcases h.rw6 hr with ⟨g1, g2⟩ | ⟨n, g1, g2, g3, g5⟩
  · have c1 : cL (sJ σ 61 u) (100 + r) = none := g1
    have e1 : lq2 (c_digest_L86 (sJ σ 61 u) r) (sJ σ 61 (mx u (-1))) 0 = some (sJ σ 61 (mx u (-1))) := by
      refine lp_end ?_
      show c_digest_L86 (sJ σ 61 u) r _ 0 = _
      unfold c_digest_L86
      rw [c1, if_neg kSn]
    have e2 : lq2 (m_digest_L103 (nI r)) (sJ τ 72 (mx u (-1))) 0 = some (sJ τ 72 (mx u (-1))) := by
      refine lp_end ?_
      show m_digest_L103 (nI r) _ 0 = _
      unfold m_digest_L103
      rw [rdA_nI hr (by decide), B1_some, cA_sJ, g2, if_pos (by decide)]
    refine ⟨mx u (-1), ?_, ?_⟩
    · unfold c_digest_L73
      rw [if_neg (ge6 hr), ixA_is hr (by decide), B1_some, c1, if_neg kSn, B1_some, ← m1_64, cmix_is, B1_some, e1, B1_some, nI_1]
    · unfold m_digest_L91
      rw [if_neg (ge6 hr), rdA_nI hr (by decide), B1_some, cA_sJ, g2, if_neg k90, B1_some, mmix_is, B1_some, e2, B1_some, nI_1]
  · have c1 : cL (sJ σ 61 u) (100 + r) = some n := g2
    obtain ⟨u', e1, e2⟩ := dg_loop (σ := σ) (τ := τ) (step := c_digest_L86 (sJ σ 61 u) r) (step' := m_digest_L103 (nI r)) n (fun k x hk => by
      refine ⟨mx x (cA τ 7 (40 * r + k)), ?_, ?_⟩
      · unfold c_digest_L86
        rw [c1, if_pos (kSm n), show cL (sJ σ 61 x) (100 + r) = some n from g2, B1_some, if_neg (nI_ge hk (by omega)), rdD_nI (show cL (sJ σ 61 x) (100 + r) = some n from g2) hk (by omega), B1_some, cA_sJ, g5 k hk, cmix_is, B1_some, nI_1]
      · unfold m_digest_L103
        rw [rdA_nI hr (by decide), B1_some, cA_sJ, g3, if_neg (nI_ge hk (by omega)), ix40, rdA_nI (by omega) (by decide), B1_some, cA_sJ, mmix_is, B1_some, nI_1]) (fun x => by
      constructor
      · unfold c_digest_L86
        rw [c1, if_pos (kSm n), show cL (sJ σ 61 x) (100 + r) = some n from g2, B1_some, if_pos (Int32.le_refl _)]
      · unfold m_digest_L103
        rw [rdA_nI hr (by decide), B1_some, cA_sJ, g3, if_pos (Int32.le_refl _)]) (mx u (nI n))
    refine ⟨u', ?_, ?_⟩
    · unfold c_digest_L73
      rw [if_neg (ge6 hr), ixA_is hr (by decide), B1_some, c1, if_pos (kSm n), B1_some, B1_some, cmix_is, B1_some, e1, B1_some, nI_1]
    · unfold m_digest_L91
      rw [if_neg (ge6 hr), rdA_nI hr (by decide), B1_some, cA_sJ, g3, if_pos (nI_pos' (by omega)), B1_some, B1_some, mmix_is, B1_some, e2, B1_some, nI_1]
theorem dg_texts (h : R σ τ) (v : Int64) : ∃ v', lq2 (c_digest_L97) (sJ σ 61 v) 0 = some (sJ σ 61 v') ∧ lq2 (m_digest_L113) (sJ τ 72 v) 0 = some (sJ τ 72 v') := by
  refine dg_loop 4 (fun r u hr => ?_) (fun u => ⟨by unfold c_digest_L97; rw [if_pos (by decide)], by unfold m_digest_L113; rw [if_pos (by decide)]⟩) v
  rcases h.tx4 hr with ⟨g1, g2⟩ | ⟨n, g1, g2, g3, g5⟩
  · have c1 : cL (sJ σ 61 u) (110 + r) = none := g1
    have e1 : lq2 (c_digest_L110 (sJ σ 61 u) r) (sJ σ 61 (mx u (-1))) 0 = some (sJ σ 61 (mx u (-1))) := by
      refine lp_end ?_
      show c_digest_L110 (sJ σ 61 u) r _ 0 = _
      unfold c_digest_L110
      rw [c1, if_neg kSn]
    have e2 : lq2 (m_digest_L125 (nI r)) (sJ τ 72 (mx u (-1))) 0 = some (sJ τ 72 (mx u (-1))) := by
      refine lp_end ?_
      show m_digest_L125 (nI r) _ 0 = _
      unfold m_digest_L125
      rw [rdA_nI hr (by decide), B1_some, cA_sJ, g2, if_pos (by decide)]
    refine ⟨mx u (-1), ?_, ?_⟩
    · unfold c_digest_L97
      rw [if_neg (ge4 hr), ixA_is hr (by decide), B1_some, c1, if_neg kSn, B1_some, ← m1_64, cmix_is, B1_some, e1, B1_some, nI_1]
    · unfold m_digest_L113
      rw [if_neg (ge4 hr), rdA_nI hr (by decide), B1_some, cA_sJ, g2, if_neg k90, B1_some, mmix_is, B1_some, e2, B1_some, nI_1]
  · have c1 : cL (sJ σ 61 u) (110 + r) = some n := g2
    obtain ⟨u', e1, e2⟩ := dg_loop (σ := σ) (τ := τ) (step := c_digest_L110 (sJ σ 61 u) r) (step' := m_digest_L125 (nI r)) n (fun k x hk => by
      refine ⟨mx x (cA τ 10 (40 * r + k)), ?_, ?_⟩
      · unfold c_digest_L110
        rw [c1, if_pos (kSm n), show cL (sJ σ 61 x) (110 + r) = some n from g2, B1_some, if_neg (nI_ge hk (by omega)), rdD_nI (show cL (sJ σ 61 x) (110 + r) = some n from g2) hk (by omega), B1_some, cA_sJ, g5 k hk, cmix_is, B1_some, nI_1]
      · unfold m_digest_L125
        rw [rdA_nI hr (by decide), B1_some, cA_sJ, g3, if_neg (nI_ge hk (by omega)), ix40, rdA_nI (by omega) (by decide), B1_some, cA_sJ, mmix_is, B1_some, nI_1]) (fun x => by
      constructor
      · unfold c_digest_L110
        rw [c1, if_pos (kSm n), show cL (sJ σ 61 x) (110 + r) = some n from g2, B1_some, if_pos (Int32.le_refl _)]
      · unfold m_digest_L125
        rw [rdA_nI hr (by decide), B1_some, cA_sJ, g3, if_pos (Int32.le_refl _)]) (mx u (nI n))
    refine ⟨u', ?_, ?_⟩
    · unfold c_digest_L97
      rw [if_neg (ge4 hr), ixA_is hr (by decide), B1_some, c1, if_pos (kSm n), B1_some, B1_some, cmix_is, B1_some, e1, B1_some, nI_1]
    · unfold m_digest_L113
      rw [if_neg (ge4 hr), rdA_nI hr (by decide), B1_some, cA_sJ, g3, if_pos (nI_pos' (by omega)), B1_some, B1_some, mmix_is, B1_some, e2, B1_some, nI_1]
theorem s_digest (h : R σ τ) : Sim (c_digest σ) (m_digest τ) Rq := by
  obtain ⟨v1, a1, b1⟩ := dg_counts h 17
  obtain ⟨v3, a3, b3⟩ := dg_trailers h (mw τ v1 64)
  obtain ⟨v4, a4, b4⟩ := dg_tractors h v3
  obtain ⟨v5, a5, b5⟩ := dg_entries h v4
  obtain ⟨v6, a6, b6⟩ := dg_terms h v5
  obtain ⟨v9, a9, b9⟩ := dg_rows h (mx (mx v6 (cI τ 46)) (cI τ 47))
  obtain ⟨v10, a10, b10⟩ := dg_texts h v9
  unfold c_digest m_digest
  rw [a1, b1, B1_some, B1_some, dg_waysC h.eq, dg_waysM, B1_some, B1_some, a3, b3, B1_some, B1_some, a4, b4, B1_some, B1_some, a5, b5, B1_some, B1_some, a6, b6, B1_some, B1_some]
  rw [show cI (sJ σ 61 v6) 20 = cI τ 46 from h.eq.I 20 46 (by decide), cmix_is, B1_some, show cI (sJ σ 61 (mx v6 (cI τ 46))) 21 = cI τ 47 from h.eq.I 21 47 (by decide), cmix_is, B1_some, show cI (sJ τ 72 v6) 46 = cI τ 46 from rfl, mmix_is, B1_some, show cI (sJ τ 72 (mx v6 (cI τ 46))) 47 = cI τ 47 from rfl, mmix_is, B1_some, a9, b9, B1_some, B1_some, a10, b10, B1_some, B1_some]
  refine ⟨_, _, rfl, rfl, ?_, h.dg v10⟩
  show cJ (sJ σ 61 v10) 61 = cJ (sJ τ 72 v10) 72
  rw [cJ_sJ, cJ_sJ, if_pos rfl, if_pos rfl]
end Dig
