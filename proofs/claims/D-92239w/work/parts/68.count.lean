/-! plain law: counts, the digest -/
def cnt (g : Nat → Nat) : Nat → Nat
  | 0 => 0
  | k + 1 => cnt g k + g k
def up64 (g : Nat → Nat) : Nat → Nat := fun k => if k / 8 < k % 8 then g k else 0
theorem cnt_le {g : Nat → Nat} (h : ∀ k, g k ≤ 1) : ∀ k, cnt g k ≤ k
  | 0 => Nat.le_refl _
  | k + 1 => by
    have h1 := cnt_le h k
    have h2 := h k
    rw [cnt]
    omega
theorem up64_le {g : Nat → Nat} (h : ∀ k, g k ≤ 1) (k : Nat) : up64 g k ≤ 1 := by
  unfold up64
  split
  · exact h k
  · omega
set_option maxRecDepth 10000 in
theorem cnt_half {g : Nat → Nat} (hs : ∀ x y, x < 8 → y < 8 → g (8 * x + y) = g (8 * y + x)) (hd : ∀ x, x < 8 → g (8 * x + x) = 0) : cnt g 64 = 2 * cnt (up64 g) 64 := by
  have s0_1 : g 8 = g 1 := hs 1 0 (by decide) (by decide)
  have s0_2 : g 16 = g 2 := hs 2 0 (by decide) (by decide)
  have s0_3 : g 24 = g 3 := hs 3 0 (by decide) (by decide)
  have s0_4 : g 32 = g 4 := hs 4 0 (by decide) (by decide)
  have s0_5 : g 40 = g 5 := hs 5 0 (by decide) (by decide)
  have s0_6 : g 48 = g 6 := hs 6 0 (by decide) (by decide)
  have s0_7 : g 56 = g 7 := hs 7 0 (by decide) (by decide)
  have s1_2 : g 17 = g 10 := hs 2 1 (by decide) (by decide)
  have s1_3 : g 25 = g 11 := hs 3 1 (by decide) (by decide)
  have s1_4 : g 33 = g 12 := hs 4 1 (by decide) (by decide)
  have s1_5 : g 41 = g 13 := hs 5 1 (by decide) (by decide)
  have s1_6 : g 49 = g 14 := hs 6 1 (by decide) (by decide)
  have s1_7 : g 57 = g 15 := hs 7 1 (by decide) (by decide)
  have s2_3 : g 26 = g 19 := hs 3 2 (by decide) (by decide)
  have s2_4 : g 34 = g 20 := hs 4 2 (by decide) (by decide)
  have s2_5 : g 42 = g 21 := hs 5 2 (by decide) (by decide)
  have s2_6 : g 50 = g 22 := hs 6 2 (by decide) (by decide)
  have s2_7 : g 58 = g 23 := hs 7 2 (by decide) (by decide)
  have s3_4 : g 35 = g 28 := hs 4 3 (by decide) (by decide)
  have s3_5 : g 43 = g 29 := hs 5 3 (by decide) (by decide)
  have s3_6 : g 51 = g 30 := hs 6 3 (by decide) (by decide)
  have s3_7 : g 59 = g 31 := hs 7 3 (by decide) (by decide)
  have s4_5 : g 44 = g 37 := hs 5 4 (by decide) (by decide)
  have s4_6 : g 52 = g 38 := hs 6 4 (by decide) (by decide)
  have s4_7 : g 60 = g 39 := hs 7 4 (by decide) (by decide)
  have s5_6 : g 53 = g 46 := hs 6 5 (by decide) (by decide)
  have s5_7 : g 61 = g 47 := hs 7 5 (by decide) (by decide)
  have s6_7 : g 62 = g 55 := hs 7 6 (by decide) (by decide)
  have d0 : g 0 = 0 := hd 0 (by decide)
  have d1 : g 9 = 0 := hd 1 (by decide)
  have d2 : g 18 = 0 := hd 2 (by decide)
  have d3 : g 27 = 0 := hd 3 (by decide)
  have d4 : g 36 = 0 := hd 4 (by decide)
  have d5 : g 45 = 0 := hd 5 (by decide)
  have d6 : g 54 = 0 := hd 6 (by decide)
  have d7 : g 63 = 0 := hd 7 (by decide)
  have hu : ∀ k, up64 g k = if k / 8 < k % 8 then g k else 0 := fun k => rfl
  simp only [cnt, hu]
  simp (config := { decide := true }) only [Nat.reduceDiv, Nat.reduceMod, Nat.reduceLT, if_true, if_false]
  omega
section Count
variable {σ σ' τ τ' : St}
def gMi (mi : Nat → Int32) (k : Nat) : Nat := if mi k ≤ 0 then 0 else 1
theorem gMi_le (mi : Nat → Int32) (k : Nat) : gMi mi k ≤ 1 := by
  unfold gMi
  split <;> omega
theorem cnt_ways (h : R σ τ) : ∃ m, m ≤ 64 ∧ lq2 (c_counted_L11 σ) 0 0 = some (nI (2 * m)) ∧ lq2 (m_counts_L9 τ) 0 0 = some (nI m) := by
  obtain ⟨w, n, N, q, hw⟩ := h.rw
  have hWy := hw.2.2.2.2.2.2.2.2.2
  have hle := cnt_le (up64_le (gMi_le (cA τ 11))) 64
  refine ⟨cnt (up64 (gMi (cA τ 11))) 64, hle, ?_, ?_⟩
  · have hh : cnt (gMi (cA τ 11)) 64 = 2 * cnt (up64 (gMi (cA τ 11))) 64 := cnt_half (fun x y hx hy => by unfold gMi; rw [(hWy.2.1 x y hx hy).1]) (fun x hx => by unfold gMi; rw [hWy.2.2 x hx]; rfl)
    rw [← hh]
    have key : ∃ e, lq2 (c_counted_L11 σ) 0 0 = some e ∧ e = nI (cnt (gMi (cA τ 11)) 64) := by
      unfold lq2
      refine lp_forI 64 (fun k (q : Int32 × Int32) => k ≤ 64 ∧ q.2 = nI k ∧ q.1 = nI (cnt (gMi (cA τ 11)) k)) _ ?_ (i := 0) ⟨by omega, nI_0.symm, nI_0.symm⟩
      rintro k ⟨x, y⟩ ⟨hk, hy, hx⟩
      dsimp only at hy hx
      subst hy hx
      by_cases h64 : k = 64
      · subst h64
        exact Or.inr ⟨_, by show c_counted_L11 σ _ (nI 64) = _; unfold c_counted_L11; rw [if_pos (by decide)], rfl⟩
      · have hk2 : k < 64 := by omega
        refine Or.inl ⟨hk2, (nI (cnt (gMi (cA τ 11)) (k + 1)), nI k + 1), ?_, by omega, nI_1 k, rfl⟩
        show c_counted_L11 σ (nI (cnt (gMi (cA τ 11)) k)) (nI k) = _
        unfold c_counted_L11
        rw [if_neg (show ¬ (64 : Int32) ≤ nI k from nI_ge (b := 64) hk2 (by decide)), rdA_nI hk2 (by decide), B1_some, h.eq.A 12 11 (by decide), cnt]
        unfold gMi
        by_cases g : cA τ 11 k ≤ 0
        · rw [if_pos g, B1_some, Int32.add_zero, if_pos g, Nat.add_zero]
        · rw [if_neg g, B1_some, if_neg g, nI_1]
    obtain ⟨e, k1, rfl⟩ := key
    exact k1
  · have key : ∃ e, lq2 (m_counts_L9 τ) 0 0 = some e ∧ e = nI (cnt (up64 (gMi (cA τ 11))) 64) := by
      unfold lq2
      refine lp_forI 64 (fun k (q : Int32 × Int32) => k ≤ 64 ∧ q.2 = nI k ∧ q.1 = nI (cnt (up64 (gMi (cA τ 11))) k)) _ ?_ (i := 0) ⟨by omega, nI_0.symm, nI_0.symm⟩
      rintro k ⟨x, y⟩ ⟨hk, hy, hx⟩
      dsimp only at hy hx
      subst hy hx
      by_cases h64 : k = 64
      · subst h64
        exact Or.inr ⟨_, by show m_counts_L9 τ _ (nI 64) = _; unfold m_counts_L9; rw [if_pos (by decide)], rfl⟩
      · have hk2 : k < 64 := by omega
        have hdv : nI k / 8 = nI (k / 8) := pk_div (d := 8) (by omega) (by decide) (by decide)
        have hmd : nI k - nI (k / 8) * 8 = nI (k % 8) := by
          rw [← hdv]
          exact pk_rem (d := 8) (by omega) (by decide) (by decide)
        refine Or.inl ⟨hk2, (nI (cnt (up64 (gMi (cA τ 11))) (k + 1)), nI k + 1), ?_, by omega, nI_1 k, rfl⟩
        show m_counts_L9 τ (nI (cnt (up64 (gMi (cA τ 11))) k)) (nI k) = _
        unfold m_counts_L9
        rw [if_neg (show ¬ (64 : Int32) ≤ nI k from nI_ge (b := 64) hk2 (by decide)), hdv, hmd, rdA_nI hk2 (by decide), B1_some, cnt]
        have hu : up64 (gMi (cA τ 11)) k = if k / 8 < k % 8 then gMi (cA τ 11) k else 0 := rfl
        rw [hu]
        by_cases hlt : k / 8 < k % 8
        · rw [if_neg (nI_ge hlt (by omega)), if_pos hlt]
          unfold gMi
          by_cases g : cA τ 11 k ≤ 0
          · rw [if_pos g, B1_some, Int32.add_zero, if_pos g, Nat.add_zero]
          · rw [if_neg g, B1_some, if_neg g, nI_1]
        · rw [if_pos (nI_le (by omega) (by omega)), if_neg hlt, B1_some, Int32.add_zero, Nat.add_zero]
    obtain ⟨e, k1, rfl⟩ := key
    exact k1
theorem cnt_lost (h : R σ τ) : Sim (lq2 (c_counted_L1 σ) 0 0) (lq2 (m_counts_L1 τ) 0 0) Eq := by
  obtain ⟨w, n, N, q, hw⟩ := h.rw
  have hn := hw.1.2.1
  unfold lq2
  refine lp_sim n (fun k (p q : Int32 × Int32) => k ≤ n ∧ p.2 = nI k ∧ q.2 = nI k ∧ p.1 = q.1) _ ?_ (i := 0) ⟨by omega, nI_0.symm, nI_0.symm, rfl⟩
  rintro k ⟨s, x⟩ ⟨s', x'⟩ ⟨hk, hx, hx', hs⟩
  dsimp only at hx hx' hs
  subst hx hx' hs
  by_cases hkn : k = n
  · subst hkn
    refine Or.inr ⟨s, s, ?_, ?_, rfl⟩
    · show c_counted_L1 σ s (nI k) = _
      unfold c_counted_L1
      rw [hw.c19, if_pos (Int32.le_refl _)]
    · show m_counts_L1 τ s (nI k) = _
      unfold m_counts_L1
      rw [hw.m16, if_pos (Int32.le_refl _)]
  · have hk2 : k < n := by omega
    have hk12 : k < 12 := by omega
    obtain ⟨kd, hkd, hL, h17, -, -, -, hF, -⟩ := hw.2.2.2.1.1 k hk2
    have f4 := hF (4, 20) (by decide) (okT_lo (by decide))
    dsimp only at f4
    by_cases g : cA τ 20 k = 0
    · refine Or.inl ⟨hk2, (s + 0, nI k + 1), (s + 0, nI k + 1), ?_, ?_, by omega, nI_1 k, nI_1 k, rfl⟩
      · show c_counted_L1 σ s (nI k) = _
        unfold c_counted_L1
        rw [hw.c19, if_neg (nI_ge hk2 (by omega)), ixD_is hk12 (by decide) hL, B1_some, rdT_is hL (okT_lo (by decide)), B1_some, f4, if_pos g, B1_some]
      · show m_counts_L1 τ s (nI k) = _
        unfold m_counts_L1
        rw [hw.m16, if_neg (nI_ge hk2 (by omega)), rdA_nI hk12 (by decide), B1_some, if_pos g, B1_some]
    · refine Or.inl ⟨hk2, (s + 1, nI k + 1), (s + 1, nI k + 1), ?_, ?_, by omega, nI_1 k, nI_1 k, rfl⟩
      · show c_counted_L1 σ s (nI k) = _
        unfold c_counted_L1
        rw [hw.c19, if_neg (nI_ge hk2 (by omega)), ixD_is hk12 (by decide) hL, B1_some, rdT_is hL (okT_lo (by decide)), B1_some, f4, if_neg g, B1_some]
      · show m_counts_L1 τ s (nI k) = _
        unfold m_counts_L1
        rw [hw.m16, if_neg (nI_ge hk2 (by omega)), rdA_nI hk12 (by decide), B1_some, if_neg g, B1_some]
theorem cnt_rows (h : R σ τ) : Sim (lq2 (c_counted_L19 σ) 0 0) (lq2 (m_counts_L17 τ) 0 0) Eq := by
  unfold lq2
  refine lp_sim 6 (fun k (p q : Int32 × Int32) => k ≤ 6 ∧ p.2 = nI k ∧ q.2 = nI k ∧ p.1 = q.1) _ ?_ (i := 0) ⟨by omega, nI_0.symm, nI_0.symm, rfl⟩
  rintro k ⟨s, x⟩ ⟨s', x'⟩ ⟨hk, hx, hx', hs⟩
  dsimp only at hx hx' hs
  subst hx hx' hs
  by_cases hkn : k = 6
  · subst hkn
    refine Or.inr ⟨s, s, ?_, ?_, rfl⟩
    · show c_counted_L19 σ s (nI 6) = _
      unfold c_counted_L19
      rw [if_pos (by decide)]
    · show m_counts_L17 τ s (nI 6) = _
      unfold m_counts_L17
      rw [if_pos (by decide)]
  · have hk2 : k < 6 := by omega
    have hge : ¬ (6 : Int32) ≤ nI k := nI_ge (b := 6) hk2 (by decide)
    rcases h.rw6 hk2 with ⟨g1, g2⟩ | ⟨n, g1, g2, g3, g4⟩
    · refine Or.inl ⟨hk2, (s + 0, nI k + 1), (s + 0, nI k + 1), ?_, ?_, by omega, nI_1 k, nI_1 k, rfl⟩
      · show c_counted_L19 σ s (nI k) = _
        unfold c_counted_L19
        rw [if_neg hge, ixA_is hk2 (by decide), B1_some, g1, if_neg kSn, B1_some]
      · show m_counts_L17 τ s (nI k) = _
        unfold m_counts_L17
        rw [if_neg hge, rdA_nI hk2 (by decide), B1_some, g2, if_pos k9l, B1_some]
    · refine Or.inl ⟨hk2, (s + 1, nI k + 1), (s + 1, nI k + 1), ?_, ?_, by omega, nI_1 k, nI_1 k, rfl⟩
      · show c_counted_L19 σ s (nI k) = _
        unfold c_counted_L19
        rw [if_neg hge, ixA_is hk2 (by decide), B1_some, g2, if_pos (kSm n), B1_some]
      · show m_counts_L17 τ s (nI k) = _
        unfold m_counts_L17
        rw [if_neg hge, rdA_nI hk2 (by decide), B1_some, g3, if_neg (nI_pos (by omega)), B1_some]
theorem cnt_texts (h : R σ τ) : Sim (lq2 (c_counted_L28 σ) 0 0) (lq2 (m_counts_L25 τ) 0 0) Eq := by
  unfold lq2
  refine lp_sim 4 (fun k (p q : Int32 × Int32) => k ≤ 4 ∧ p.2 = nI k ∧ q.2 = nI k ∧ p.1 = q.1) _ ?_ (i := 0) ⟨by omega, nI_0.symm, nI_0.symm, rfl⟩
  rintro k ⟨s, x⟩ ⟨s', x'⟩ ⟨hk, hx, hx', hs⟩
  dsimp only at hx hx' hs
  subst hx hx' hs
  by_cases hkn : k = 4
  · subst hkn
    refine Or.inr ⟨s, s, ?_, ?_, rfl⟩
    · show c_counted_L28 σ s (nI 4) = _
      unfold c_counted_L28
      rw [if_pos (by decide)]
    · show m_counts_L25 τ s (nI 4) = _
      unfold m_counts_L25
      rw [if_pos (by decide)]
  · have hk2 : k < 4 := by omega
    have hge : ¬ (4 : Int32) ≤ nI k := nI_ge (b := 4) hk2 (by decide)
    rcases h.tx4 hk2 with ⟨g1, g2⟩ | ⟨n, g1, g2, g3, g4⟩
    · refine Or.inl ⟨hk2, (s + 0, nI k + 1), (s + 0, nI k + 1), ?_, ?_, by omega, nI_1 k, nI_1 k, rfl⟩
      · show c_counted_L28 σ s (nI k) = _
        unfold c_counted_L28
        rw [if_neg hge, ixA_is hk2 (by decide), B1_some, g1, if_neg kSn, B1_some]
      · show m_counts_L25 τ s (nI k) = _
        unfold m_counts_L25
        rw [if_neg hge, rdA_nI hk2 (by decide), B1_some, g2, if_pos k9l, B1_some]
    · refine Or.inl ⟨hk2, (s + 1, nI k + 1), (s + 1, nI k + 1), ?_, ?_, by omega, nI_1 k, nI_1 k, rfl⟩
      · show c_counted_L28 σ s (nI k) = _
        unfold c_counted_L28
        rw [if_neg hge, ixA_is hk2 (by decide), B1_some, g2, if_pos (kSm n), B1_some]
      · show m_counts_L25 τ s (nI k) = _
        unfold m_counts_L25
        rw [if_neg hge, rdA_nI hk2 (by decide), B1_some, g3, if_neg (nI_pos (by omega)), B1_some]
theorem counts_is (h : R σ τ) (a : Int32) : ∃ v, c_counted σ a = some v ∧ m_counts τ a = some v := by
  unfold c_counted m_counts
  by_cases h0 : a = 0
  · rw [if_pos h0, if_pos h0, h.eq.I 11 5 (by decide)]; exact ⟨_, rfl, rfl⟩
  rw [if_neg h0, if_neg h0]
  by_cases h1 : a = 1
  · rw [if_pos h1, if_pos h1, h.eq.I 19 16 (by decide)]; exact ⟨_, rfl, rfl⟩
  rw [if_neg h1, if_neg h1]
  by_cases h2 : a = 2
  · obtain ⟨v, v', k1, k2, rfl⟩ := cnt_lost h
    rw [if_pos h2, if_pos h2, k1, k2, B1_some]; exact ⟨_, rfl, rfl⟩
  rw [if_neg h2, if_neg h2]
  by_cases h3 : a = 3
  · obtain ⟨m, hm, k1, k2⟩ := cnt_ways h
    rw [if_pos h3, if_pos h3, k1, k2, B1_some, B1_some, show nI (2 * m) / 2 = nI (2 * m / 2) from pk_div (d := 2) (by omega) (by decide) (by decide), Nat.mul_div_cancel_left m (by decide)]
    exact ⟨_, rfl, rfl⟩
  rw [if_neg h3, if_neg h3]
  by_cases h4 : a = 4
  · rw [if_pos h4, if_pos h4, h.eq.I 33 40 (by decide)]; exact ⟨_, rfl, rfl⟩
  rw [if_neg h4, if_neg h4]
  by_cases h5 : a = 5
  · rw [if_pos h5, if_pos h5, h.eq.I 22 34 (by decide)]; exact ⟨_, rfl, rfl⟩
  rw [if_neg h5, if_neg h5]
  by_cases h6 : a = 6
  · obtain ⟨v, v', k1, k2, rfl⟩ := cnt_rows h
    rw [if_pos h6, if_pos h6, k1, k2, B1_some]; exact ⟨_, rfl, rfl⟩
  rw [if_neg h6, if_neg h6]
  obtain ⟨v, v', k1, k2, rfl⟩ := cnt_texts h
  rw [k1, k2, B1_some]; exact ⟨_, rfl, rfl⟩
theorem s_count (h : R σ τ) (a : Int32) : Sim (c_count σ a) (m_count τ a) Eq := by
  unfold c_count m_count
  rw [m_in_c]
  rcases in_cases a 0 7 with ⟨-, -, e⟩ | ⟨-, e⟩
  · obtain ⟨v, k1, k2⟩ := counts_is h a
    rw [e, B1_some, B1_some, if_neg k10, if_neg k10, k1, k2, B1_some, B1_some]
    exact ⟨_, _, rfl, rfl, rfl⟩
  · rw [e, B1_some, B1_some, if_pos k00, if_pos k00, B1_some]
    exact ⟨_, _, rfl, rfl, rfl⟩
end Count
