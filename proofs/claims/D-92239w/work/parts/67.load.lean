/-! plain law: weight, lawful, shift -/
section Load
variable {σ σ' τ τ' : St}
theorem gcd_tot (x : Int64) {y : Int64} (hy : y ≠ 0) : ∃ z, lq2 (m_share_L3) x y = some z ∧ z ≠ 0 := by
  unfold lq2
  refine lp_inv (fun q : Int64 × Int64 => q.1 ≠ 0 ∨ q.2 ≠ 0) (fun q => q.2.toInt.natAbs) _ ?_ (x, y) (Or.inr hy)
  rintro ⟨a, b⟩ h
  dsimp only at h
  by_cases hb : b = 0
  · refine Or.inr ⟨a, ?_, h.resolve_right (fun g => g hb)⟩
    show m_share_L3 a b = _
    unfold m_share_L3
    rw [if_pos ((lg_cmp_eq b 0).mpr hb)]
  · refine Or.inl ⟨(b, a - a / b * b), ?_, Or.inl hb, ?_⟩
    · show m_share_L3 a b = _
      unfold m_share_L3
      rw [if_neg (fun g => hb ((lg_cmp_eq b 0).mp g)), nzL_ok hb, B1_some]
    · show (a - a / b * b).toInt.natAbs < b.toInt.natAbs
      rw [Jvm.Kit.i64_rem, Int.natAbs_tmod]
      refine Nat.mod_lt _ (Int.natAbs_pos.mpr (fun g => hb ?_))
      rw [← Int64.toInt_inj, g]
      rfl
theorem fraction_share (h : R σ τ) (u : Int64) {l : Int64} (hl : l ≠ 0) : ∃ σ' τ', c_fraction σ u l 1 = some (1, σ') ∧ m_share τ u l = some (1, τ') ∧ R σ' τ' := by
  have ab : ∀ {γ : Type} (f : Int64 → Option γ), B1 (j_abs u) f = B1 ((if 0 ≤ lg_cmp u 0 then some u else some (-u)) : Option Int64) f := fun f => by
    unfold j_abs
    by_cases g : 0 ≤ lg_cmp u 0
    · rw [if_pos g, B1_some]
    · rw [if_neg g, B1_some]
  have ex : ∃ a, ((if 0 ≤ lg_cmp u 0 then some u else some (-u)) : Option Int64) = some a := by
    by_cases g : 0 ≤ lg_cmp u 0
    · rw [if_pos g]; exact ⟨_, rfl⟩
    · rw [if_neg g]; exact ⟨_, rfl⟩
  obtain ⟨a, ha⟩ := ex
  obtain ⟨z, hz, hz0⟩ := gcd_tot a hl
  refine ⟨sJ (sJ σ 3 (u / z)) 4 (l / z), sJ (sJ τ 3 (u / z)) 4 (l / z), ?_, ?_, ?_⟩
  · unfold c_fraction
    rw [ab, ha, B1_some, show lq2 (c_fraction_L3) a l = some z from hz, B1_some, nzL_ok hz0, B1_some, B1_some]
  · unfold m_share
    rw [ha, B1_some, hz, B1_some, nzL_ok hz0, B1_some, B1_some]
  · exact h.chg (Req.wJ (Req.wJ h.eq (by decide) rfl) (by decide) rfl) (fun k hk => rfl) (fun k => rfl) (fun k hk => rfl) (fun k hk => rfl)
/-- sums of loads on both sides -/
theorem sums_is {t l : Nat} (hT : Tr1 (cL σ) (cA σ) (cA τ) t) (ht : t < 12) (hl : l ≤ 6) (el : cA τ 23 t = nI l) : (∃ v, t_turning σ (120 + t) = some v ∧ m_sumOf τ (nI t) 1 = some v) ∧ ∃ v, t_all σ (120 + t) = some v ∧ m_sumOf τ (nI t) 0 = some v := by
  obtain ⟨kd, hkd, hL, h17, hL4, hL6, -, hF, hW⟩ := hT
  have f7 := hF (7, 23) (by decide) (okT_lo (by decide))
  dsimp only at f7
  have k140 : 120 + t + 20 = 140 + t := by omega
  have k160 : 120 + t + 40 = 160 + t := by omega
  have r7 : rdT σ (120 + t) 7 = some (nI l) := by rw [rdT_is hL (okT_lo (by decide)), f7, el]
  have i6 : ∀ k, 6 * nI t + nI k = nI (6 * t + k) := fun k => by
    show nI 6 * nI t + nI k = _
    rw [pk_mul, nI_add]
  constructor
  · have key : Sim (lq2 (t_turning_L1 σ (120 + t)) 0 0) (lq2 (m_sumOf_L1 τ (nI t) 1) 0 0) Eq := by
      unfold lq2
      refine lp_sim l (fun k (p : Int64 × Int32) (q : Int64 × Int32) => k ≤ l ∧ p.2 = nI k ∧ q.2 = nI k ∧ p.1 = q.1) _ ?_ (i := 0) ⟨by omega, nI_0.symm, nI_0.symm, rfl⟩
      rintro k ⟨s, x⟩ ⟨s', x'⟩ ⟨hk, hx, hx', hs⟩
      dsimp only at hx hx' hs
      subst hx hx' hs
      by_cases hkn : k = l
      · subst hkn
        refine Or.inr ⟨s, s, ?_, ?_, rfl⟩
        · show t_turning_L1 σ (120 + t) s (nI k) = _
          unfold t_turning_L1
          rw [r7, B1_some, if_pos (Int32.le_refl _)]
        · show m_sumOf_L1 τ (nI t) 1 s (nI k) = _
          unfold m_sumOf_L1
          rw [rdA_nI ht (by decide), B1_some, el, if_pos (Int32.le_refl _)]
      · have hk2 : k < l := by omega
        obtain ⟨w1, w2⟩ := hW k (by omega)
        refine Or.inl ⟨hk2, (s + (cA τ 24 (6 * t + k)).toInt64 * (cA τ 25 (6 * t + k)).toInt64, nI k + 1), (s + (cA τ 24 (6 * t + k)).toInt64 * (cA τ 25 (6 * t + k)).toInt64, nI k + 1), ?_, ?_, by omega, nI_1 k, nI_1 k, rfl⟩
        · show t_turning_L1 σ (120 + t) s (nI k) = _
          unfold t_turning_L1
          rw [r7, B1_some, if_neg (nI_ge hk2 (by omega)), hL, B1_some, k140, rdD_nI hL4 (show k < 6 by omega) (by decide), B1_some, B1_some, k160, rdD_nI hL6 (show k < 6 by omega) (by decide), B1_some, w1, w2]
        · show m_sumOf_L1 τ (nI t) 1 s (nI k) = _
          unfold m_sumOf_L1
          rw [rdA_nI ht (by decide), B1_some, el, if_neg (nI_ge hk2 (by omega)), if_neg k10, i6, rdA_nI (by omega) (by decide), B1_some, rdA_nI (by omega) (by decide), B1_some, B1_some]
    obtain ⟨v, v', k1, k2, rfl⟩ := key
    refine ⟨v, ?_, ?_⟩
    · unfold t_turning; rw [k1, B1_some]
    · unfold m_sumOf; rw [k2, B1_some]
  · have key : Sim (lq2 (t_all_L1 σ (120 + t)) 0 0) (lq2 (m_sumOf_L1 τ (nI t) 0) 0 0) Eq := by
      unfold lq2
      refine lp_sim l (fun k (p : Int64 × Int32) (q : Int64 × Int32) => k ≤ l ∧ p.2 = nI k ∧ q.2 = nI k ∧ p.1 = q.1) _ ?_ (i := 0) ⟨by omega, nI_0.symm, nI_0.symm, rfl⟩
      rintro k ⟨s, x⟩ ⟨s', x'⟩ ⟨hk, hx, hx', hs⟩
      dsimp only at hx hx' hs
      subst hx hx' hs
      by_cases hkn : k = l
      · subst hkn
        refine Or.inr ⟨s, s, ?_, ?_, rfl⟩
        · show t_all_L1 σ (120 + t) s (nI k) = _
          unfold t_all_L1
          rw [r7, B1_some, if_pos (Int32.le_refl _)]
        · show m_sumOf_L1 τ (nI t) 0 s (nI k) = _
          unfold m_sumOf_L1
          rw [rdA_nI ht (by decide), B1_some, el, if_pos (Int32.le_refl _)]
      · have hk2 : k < l := by omega
        obtain ⟨w1, w2⟩ := hW k (by omega)
        refine Or.inl ⟨hk2, (s + (cA τ 24 (6 * t + k)).toInt64, nI k + 1), (s + (cA τ 24 (6 * t + k)).toInt64, nI k + 1), ?_, ?_, by omega, nI_1 k, nI_1 k, rfl⟩
        · show t_all_L1 σ (120 + t) s (nI k) = _
          unfold t_all_L1
          rw [r7, B1_some, if_neg (nI_ge hk2 (by omega)), hL, B1_some, k140, rdD_nI hL4 (show k < 6 by omega) (by decide), B1_some, w1]
        · show m_sumOf_L1 τ (nI t) 0 s (nI k) = _
          unfold m_sumOf_L1
          rw [rdA_nI ht (by decide), B1_some, el, if_neg (nI_ge hk2 (by omega)), if_pos k00, i6, rdA_nI (by omega) (by decide), B1_some, B1_some]
    obtain ⟨v, v', k1, k2, rfl⟩ := key
    refine ⟨v, ?_, ?_⟩
    · unfold t_all; rw [k1, B1_some]
    · unfold m_sumOf; rw [k2, B1_some]
theorem s_weight (h : R σ τ) (a b : Int32) : Sim (c_weight σ a b) (m_weight τ a b) Rq := by
  obtain ⟨w, n, N, q, hw⟩ := h.rw
  have hn := hw.1.2.1
  unfold c_weight m_weight
  rcases hw.tcase a with ⟨t, ht, rfl, e3, e4, hT⟩ | ⟨e3, e4⟩
  · obtain ⟨⟨l, hl, el⟩, -, x, hx1, hx2, ex⟩ := hw.2.2.2.2.2.2.2.2.1 t ht
    obtain ⟨⟨v1, s1, s2⟩, v2, s3, s4⟩ := sums_is hT (by omega) hl el
    obtain ⟨kd, hkd, hL, h17, -, -, -, hF, -⟩ := hT
    have ht12 : t < 12 := by omega
    have f6 := hF (6, 22) (by decide) (okT_lo (by decide))
    dsimp only at f6
    have hx0 : (nI x).toInt64 ≠ 0 := fun g => nI_ne0 (by omega) (by omega) ((i64_0 (nI x)).mp g)
    rw [e3, e4, B1_some, B1_some, if_neg k10, if_neg k10, ixD_is ht12 (by decide) hL, B1_some]
    simp only [hL, B1_some, s1, s3, rdT_is hL (okT_lo (show 6 < 8 by decide)), f6, ex, rdA_nI ht12 l12]
    unfold m_liesOn
    rw [s2, s4]
    by_cases hb : b = 0
    · simp only [if_pos hb, B1_some]
      obtain ⟨σ', τ', k1, k2, k3⟩ := fraction_share h v1 hx0
      rw [k1, k2, B2_some, B2_some, B2_some]
      exact ⟨_, _, rfl, rfl, rfl, k3⟩
    · simp only [if_neg hb, B1_some]
      obtain ⟨σ', τ', k1, k2, k3⟩ := fraction_share h (v2 * (nI x).toInt64 - v1) hx0
      rw [k1, k2, B2_some, B2_some, B2_some]
      exact ⟨_, _, rfl, rfl, rfl, k3⟩
  · rw [e3, e4, B1_some, B1_some, if_pos k00, if_pos k00, B2_some]
    exact h.same _
theorem lawful_is (h : Req σ τ) {t l : Nat} (hT : Tr1 (cL σ) (cA σ) (cA τ) t) (ht : t < 12) (hl : l ≤ 6) (el : cA τ 23 t = nI l) (a : Int32) : ∃ v : Bool, t_isLawful σ (120 + t) a = some (b01 v) ∧ m_isLawful τ (nI t) a = some (b01 v) := by
  obtain ⟨⟨v1, s1, s2⟩, v2, s3, s4⟩ := sums_is hT ht hl el
  obtain ⟨kd, hkd, hL, -⟩ := hT
  unfold t_isLawful m_isLawful m_liesOn
  rw [s2, s4]
  simp only [hL, B1_some, s1, s3, if_neg k10, if_true, h.I 20 46 (by decide), h.I 21 47 (by decide)]
  by_cases h1 : 0 < lg_cmp v1 ((cI τ 46).toInt64 * a.toInt64)
  · simp only [if_pos h1, B1_some, bZ_0]
    exact ⟨false, rfl, rfl⟩
  · simp only [if_neg h1]
    by_cases h2 : 0 < lg_cmp (v2 * a.toInt64 - v1) ((cI τ 47).toInt64 * a.toInt64)
    · simp only [if_pos h2, B1_some, bZ_0]
      by_cases h3 : lg_cmp (v2 * a.toInt64 - v1) 0 < 0
      · simp only [if_pos h3, B1_some, bZ_0]
        exact ⟨false, rfl, rfl⟩
      · simp only [if_neg h3, B1_some, bZ_0]
        exact ⟨false, rfl, rfl⟩
    · simp only [if_neg h2]
      by_cases h3 : lg_cmp (v2 * a.toInt64 - v1) 0 < 0
      · simp only [if_pos h3, B1_some, bZ_0]
        exact ⟨false, rfl, rfl⟩
      · simp only [if_neg h3, B1_some, bZ_1]
        exact ⟨true, rfl, rfl⟩
theorem s_lawful (h : R σ τ) (a : Int32) : Sim (c_lawful σ a) (m_lawful τ a) Eq := by
  obtain ⟨w, n, N, q, hw⟩ := h.rw
  have hn := hw.1.2.1
  unfold c_lawful m_lawful
  rcases hw.tcase a with ⟨t, ht, rfl, e3, e4, hT⟩ | ⟨e3, e4⟩
  · obtain ⟨⟨l, hl, el⟩, -, x, hx1, hx2, ex⟩ := hw.2.2.2.2.2.2.2.2.1 t ht
    have ht12 : t < 12 := by omega
    obtain ⟨v, k1, k2⟩ := lawful_is h.eq hT ht12 hl el (cA τ 22 t)
    obtain ⟨kd, hkd, hL, h17, -, -, -, hF, -⟩ := hT
    have f6 := hF (6, 22) (by decide) (okT_lo (by decide))
    dsimp only at f6
    rw [e3, e4, B1_some, B1_some, if_neg k10, if_neg k10, ixD_is ht12 (by decide) hL, B1_some, B1_some, rdT_is hL (okT_lo (by decide)), B1_some, f6, hL, B1_some, rdA_nI ht12 (by decide), B1_some, k1, k2, B1_some]
    cases v with
    | true => rw [b01_t, if_neg k10, B1_some]; exact ⟨_, _, rfl, rfl, rfl⟩
    | false => rw [b01_f, if_pos k00, B1_some]; exact ⟨_, _, rfl, rfl, rfl⟩
  · rw [e3, e4, B1_some, B1_some, if_pos k00, if_pos k00, B1_some]
    exact ⟨_, _, rfl, rfl, rfl⟩
theorem isAxle_is {x : Nat} (hx : x < 1000) : m_isAxle (nI x) = some (b01 (decide (60 ≤ x ∧ x ≤ 120))) := by
  unfold m_isAxle
  rw [m_in_c]
  have e1 : (60 : Int32).toInt = 60 := by decide
  have e2 : (120 : Int32).toInt = 120 := by decide
  by_cases h : 60 ≤ x ∧ x ≤ 120
  · rw [c_in_t (fun g => by rw [i32_lt, nI_toInt (by omega), e1] at g; omega) (fun g => by rw [i32_lt, nI_toInt (by omega), e2] at g; omega), B1_some, bZ_1, B1_some, decide_eq_true h]
    rfl
  · rw [c_in_f (by rw [i32_lt, i32_lt, nI_toInt (by omega), e1, e2]; omega), B1_some, bZ_0, B1_some, decide_eq_false h]
    rfl
theorem shift_step (h : Req σ τ) {t l x d : Nat} (hT : Tr1 (cL σ) (cA σ) (cA τ) t) (ht : t < 12) (hl : l ≤ 6) (el : cA τ 23 t = nI l) (hx1 : 60 ≤ x) (hx2 : x ≤ 120) (ex : cA τ 22 t = nI x) (hd : d ≤ 60) : ∃ r, c_shift_L5 σ t (nI d) = some r ∧ m_shift_L3 τ (nI t) (nI d) = some r ∧ (r = Sum.inl (nI (d + 1)) ∨ ∃ e, r = Sum.inr e) := by
  obtain ⟨vm, a1, a2⟩ := lawful_is h hT ht hl el (nI (x - d))
  obtain ⟨vp, b1, b2⟩ := lawful_is h hT ht hl el (nI (x + d))
  obtain ⟨kd, hkd, hL, h17, -, -, -, hF, -⟩ := hT
  have f6 := hF (6, 22) (by decide) (okT_lo (by decide))
  dsimp only at f6
  have r6 : rdT σ (120 + t) 6 = some (nI x) := by rw [rdT_is hL (okT_lo (by decide)), f6, ex]
  have r22 : rdA 12 τ 22 (nI t) = some (nI x) := by rw [rdA_nI ht (by decide), ex]
  have em : nI x - nI d = nI (x - d) := pk_sub (by omega)
  have ep : nI x + nI d = nI (x + d) := nI_add x d
  have h60 : ¬ (60 : Int32) < nI d := nI_nlt (b := d) (a := 60) (by omega) (by decide)
  -- the second half
  have kk : ∃ r, c_shift_K10 σ t (nI d) = some r ∧ m_shift_K10 τ (nI t) (nI d) = some r ∧ (r = Sum.inl (nI (d + 1)) ∨ ∃ e, r = Sum.inr e) := by
    unfold c_shift_K10 m_shift_K10
    simp only [r6, r22, B1_some, ep, isAxle_is (show x + d < 1000 by omega), hL, b1, b2]
    by_cases g : 60 ≤ x + d ∧ x + d ≤ 120
    · have g2 : ¬ (120 : Int32) < nI (x + d) := nI_nlt (a := 120) (by omega) (by decide)
      rw [if_neg g2, decide_eq_true g, b01_t, if_neg k10]
      cases vp with
      | true => rw [b01_t, if_neg k10]; exact ⟨_, rfl, rfl, Or.inr ⟨_, rfl⟩⟩
      | false => rw [b01_f, if_pos k00, nI_1]; exact ⟨_, rfl, rfl, Or.inl rfl⟩
    · have g2 : (120 : Int32) < nI (x + d) := nI_lt (a := 120) (by omega) (by omega)
      rw [if_pos g2, decide_eq_false g, b01_f, if_pos k00, nI_1]
      exact ⟨_, rfl, rfl, Or.inl rfl⟩
  obtain ⟨r, q1, q2, q3⟩ := kk
  unfold c_shift_L5 m_shift_L3
  rw [if_neg h60, if_neg h60]
  simp only [r6, r22, B1_some, em, isAxle_is (show x - d < 1000 by omega), hL, a1, a2]
  by_cases g : 60 ≤ x - d ∧ x - d ≤ 120
  · have g2 : ¬ nI (x - d) < (60 : Int32) := nI_nlt (b := 60) (by omega) (by omega)
    rw [if_neg g2, decide_eq_true g, b01_t, if_neg k10]
    cases vm with
    | true => rw [b01_t, if_neg k10]; exact ⟨_, rfl, rfl, Or.inr ⟨_, rfl⟩⟩
    | false => rw [b01_f, if_pos k00]; exact ⟨r, q1, q2, q3⟩
  · have g2 : nI (x - d) < (60 : Int32) := nI_lt (b := 60) (by omega) (by decide)
    rw [if_pos g2, decide_eq_false g, b01_f, if_pos k00]
    exact ⟨r, q1, q2, q3⟩
theorem s_shift (h : R σ τ) (a : Int32) : Sim (c_shift σ a) (m_shift τ a) Eq := by
  obtain ⟨w, n, N, q, hw⟩ := h.rw
  have hn := hw.1.2.1
  unfold c_shift m_shift
  rcases hw.tcase a with ⟨t, ht, rfl, e3, e4, hT⟩ | ⟨e3, e4⟩
  · obtain ⟨⟨l, hl, el⟩, -, x, hx1, hx2, ex⟩ := hw.2.2.2.2.2.2.2.2.1 t ht
    have ht12 : t < 12 := by omega
    have key : Sim (lq1 (c_shift_L5 σ t) 0) (lq1 (m_shift_L3 τ (nI t)) 0) Eq := by
      unfold lq1
      refine lp_sim 61 (fun d (p q : Int32) => d ≤ 61 ∧ p = nI d ∧ q = nI d) _ ?_ (i := 0) ⟨by omega, nI_0.symm, nI_0.symm⟩
      rintro d p q' ⟨hd, rfl, rfl⟩
      by_cases h61 : d = 61
      · subst h61
        refine Or.inr ⟨Sum.inl (), Sum.inl (), ?_, ?_, rfl⟩
        · show c_shift_L5 σ t (nI 61) = _
          unfold c_shift_L5
          rw [if_pos (by decide)]
        · show m_shift_L3 τ (nI t) (nI 61) = _
          unfold m_shift_L3
          rw [if_pos (by decide)]
      · obtain ⟨r, q1, q2, q3⟩ := shift_step h.eq hT ht12 hl el hx1 hx2 ex (d := d) (by omega)
        rcases q3 with rfl | ⟨e, rfl⟩
        · exact Or.inl ⟨by omega, _, _, q1, q2, by omega, rfl, rfl⟩
        · exact Or.inr ⟨e, e, q1, q2, rfl⟩
    obtain ⟨r, r', q1, q2, rfl⟩ := key
    obtain ⟨kd, hkd, hL, -⟩ := hT
    rw [e3, e4, B1_some, B1_some, if_neg k10, if_neg k10, ixD_is ht12 (by decide) hL, B1_some, q1, q2]
    cases r with
    | inl u => rw [BR1_l]; exact ⟨_, _, rfl, rfl, rfl⟩
    | inr u => rw [BR1_r]; exact ⟨_, _, rfl, rfl, rfl⟩
  · rw [e3, e4, B1_some, B1_some, if_pos k00, if_pos k00]
    exact ⟨_, _, rfl, rfl, rfl⟩
end Load
