/-! plain law: copy, mean, cold -/
section Rows2
variable {σ σ' τ τ' : St}
theorem ix40b (b i k : Nat) : 40 * nI b + nI i + nI k = nI (40 * b + i + k) := by rw [ix40, nI_add]
theorem copy_out {r i m : Nat} (hr : r < 6) (him : i + m ≤ 40) : ∃ g, lq2 (m_copy_L25 (nI r) (nI i) (nI m)) τ 0 = some (sAr τ 8 g) ∧ ∀ p, p < m → g p = cA τ 7 (40 * r + i + p) := by
  have key : ∃ e, lq2 (m_copy_L25 (nI r) (nI i) (nI m)) τ 0 = some e ∧ ∃ g, e = sAr τ 8 g ∧ ∀ p, p < m → g p = cA τ 7 (40 * r + i + p) := by
    unfold lq2
    refine lp_forI m (fun k (q : St × Int32) => k ≤ m ∧ q.2 = nI k ∧ ∃ g, q.1 = sAr τ 8 g ∧ ∀ p, p < k → g p = cA τ 7 (40 * r + i + p)) _ ?_ (i := 0) ⟨by omega, nI_0.symm, cA τ 8, (sAr_self τ 8).symm, fun p hp => absurd hp (Nat.not_lt_zero p)⟩
    rintro k ⟨τ1, x⟩ ⟨hk, hx, g, hσ, h1⟩
    dsimp only at hx hσ
    subst hx hσ
    by_cases h8 : k = m
    · subst h8
      exact Or.inr ⟨_, by show m_copy_L25 (nI r) (nI i) (nI k) _ (nI k) = _; unfold m_copy_L25; rw [if_pos (Int32.le_refl _)], g, rfl, h1⟩
    · have hk2 : k < m := by omega
      refine Or.inl ⟨hk2, (sAr τ 8 (upd g k (cA τ 7 (40 * r + i + k))), nI k + 1), ?_, by omega, nI_1 k, _, rfl, fun p hp => ?_⟩
      · show m_copy_L25 (nI r) (nI i) (nI m) (sAr τ 8 g) (nI k) = _
        unfold m_copy_L25
        rw [if_neg (nI_ge hk2 (by omega)), ix40b, rdA_nI (by omega) (by decide), B1_some, wrA_nI (by omega) (by decide), B1_some, sA1, cA_sAr_ne _ (by decide)]
      · by_cases q : p = k
        · subst q; rw [upd_at]
        · rw [upd_ne _ q]; exact h1 p (by omega)
  obtain ⟨e, k1, g, rfl, k2⟩ := key
  exact ⟨g, k1, k2⟩
theorem copy_in {t j m : Nat} (ht : t < 6) (hjm : j + m ≤ 40) : ∃ f, lq2 (m_copy_L33 (nI t) (nI j) (nI m)) τ 0 = some (sAr τ 7 f) ∧ (∀ p, p < m → f (40 * t + j + p) = cA τ 8 p) ∧ ∀ p, (p < 40 * t + j ∨ 40 * t + j + m ≤ p) → f p = cA τ 7 p := by
  have key : ∃ e, lq2 (m_copy_L33 (nI t) (nI j) (nI m)) τ 0 = some e ∧ ∃ f, e = sAr τ 7 f ∧ (∀ p, p < m → f (40 * t + j + p) = cA τ 8 p) ∧ ∀ p, (p < 40 * t + j ∨ 40 * t + j + m ≤ p) → f p = cA τ 7 p := by
    unfold lq2
    refine lp_forI m (fun k (q : St × Int32) => k ≤ m ∧ q.2 = nI k ∧ ∃ f, q.1 = sAr τ 7 f ∧ (∀ p, p < k → f (40 * t + j + p) = cA τ 8 p) ∧ ∀ p, (p < 40 * t + j ∨ 40 * t + j + m ≤ p) → f p = cA τ 7 p) _ ?_ (i := 0) ⟨by omega, nI_0.symm, cA τ 7, (sAr_self τ 7).symm, fun p hp => absurd hp (Nat.not_lt_zero p), fun p _ => rfl⟩
    rintro k ⟨τ1, x⟩ ⟨hk, hx, f, hσ, h1, h2⟩
    dsimp only at hx hσ
    subst hx hσ
    by_cases h8 : k = m
    · subst h8
      exact Or.inr ⟨_, by show m_copy_L33 (nI t) (nI j) (nI k) _ (nI k) = _; unfold m_copy_L33; rw [if_pos (Int32.le_refl _)], f, rfl, h1, h2⟩
    · have hk2 : k < m := by omega
      refine Or.inl ⟨hk2, (sAr τ 7 (upd f (40 * t + j + k) (cA τ 8 k)), nI k + 1), ?_, by omega, nI_1 k, _, rfl, fun p hp => ?_, fun p hp => ?_⟩
      · show m_copy_L33 (nI t) (nI j) (nI m) (sAr τ 7 f) (nI k) = _
        unfold m_copy_L33
        rw [if_neg (nI_ge hk2 (by omega)), rdA_nI (by omega) (by decide), B1_some, ix40b, wrA_nI (by omega) (by decide), B1_some, sA1, cA_sAr_ne _ (by decide)]
      · by_cases q : p = k
        · subst q; rw [upd_at]
        · rw [upd_ne _ (by omega)]; exact h1 p (by omega)
      · rw [upd_ne _ (by omega)]; exact h2 p hp
  obtain ⟨e, k1, f, rfl, k2, k3⟩ := key
  exact ⟨f, k1, k2, k3⟩
theorem fnd1 (h : R σ τ) : Sim (c_found σ 1) (B2 (m_meets τ 1) fun v s => some (v, s)) Rq := found_meets1 h (f := 1) (by decide) rfl
theorem fnd2 (h : R σ τ) : Sim (c_found σ 2) (B2 (m_meets τ 2) fun v s => some (v, s)) Rq := found_meets1 h (f := 2) (by decide) rfl
theorem cmp_gt {a b : Int32} {n : Nat} (hn : n ≤ 40) : (0 < lg_cmp (a.toInt64 + b.toInt64) (nI n).toInt64) ↔ (n : Int) < a.toInt + b.toInt := by
  rw [lg_cmp_gt, Int64.lt_iff_toInt_lt, lg_i2l_add, Jvm.Kit.i64_of_i32, nI_toInt (by omega)]
theorem cmp_le {a b : Int32} {n : Nat} (hn : n ≤ 40) : (lg_cmp (a.toInt64 + b.toInt64) (nI n).toInt64 ≤ 0) ↔ ¬ (n : Int) < a.toInt + b.toInt := by
  rw [lg_cmp_le, Int64.le_iff_toInt_le, lg_i2l_add, Jvm.Kit.i64_of_i32, nI_toInt (by omega)]
  omega
theorem s_copy (h : R σ τ) (a b c d e : Int32) : Sim (c_copy σ a b c d e) (m_copy τ a b c d e) Rq := by
  unfold c_copy m_copy
  rcases row_cases a with ⟨r, hr, rfl, e1, e2⟩ | ⟨e1, e2⟩
  · rw [e1, e2, B1_some, B1_some, if_neg k10, if_neg k10]
    rcases row_cases c with ⟨t, ht, rfl, e3, e4⟩ | ⟨e3, e4⟩
    · rw [e3, e4, B1_some, B1_some, if_neg k10, if_neg k10]
      by_cases h0 : e < 0
      · have n0 : ¬ (0 : Int32) ≤ e := fun g => by rw [i32_le] at g; rw [i32_lt] at h0; omega
        rw [if_pos h0, if_neg n0]
        exact found_meets1 h (f := 5) (by decide) rfl
      · obtain ⟨m, hm, rfl⟩ := nI_of h0
        rw [if_neg h0, if_pos (nI_pos' hm), ixA_is hr (by decide), B1_some, ixA_is ht (by decide), B1_some]
        simp only [rdA_nI hr l6, rdA_nI ht l6, B1_some]
        rcases h.rw6 hr with ⟨g1, g2⟩ | ⟨n1, g1, g2, g3, g4⟩
        · rw [g1, if_neg kSn, g2, if_pos k9l]
          exact fnd1 h
        · rw [g2, if_pos (kSm n1), g3, if_neg (nI_pos (by omega))]
          rcases h.rw6 ht with ⟨f1, f2⟩ | ⟨n3, f1, f2, f3, f4⟩
          · rw [f1, if_neg kSn, f2, if_neg k90]
            exact fnd1 h
          · rw [f2, if_pos (kSm n3), f3, if_pos (nI_pos' (by omega)), B1_some, B1_some, if_neg (by omega)]
            by_cases hb : b < 0
            · rw [if_pos (Or.inl hb), if_pos hb]
              exact fnd2 h
            · rw [if_neg hb]
              by_cases hd : d < 0
              · rw [if_pos (Or.inr (Or.inl hd)), if_pos hd]
                exact fnd2 h
              · rw [if_neg hd]
                by_cases h1 : (n1 : Int) < b.toInt + (nI m).toInt
                · rw [if_pos (Or.inr (Or.inr (Or.inl h1))), if_pos ((cmp_gt g1).mpr h1)]
                  exact fnd2 h
                · rw [if_neg (fun g => h1 ((cmp_gt g1).mp g))]
                  by_cases h3 : (n3 : Int) < d.toInt + (nI m).toInt
                  · rw [if_pos (Or.inr (Or.inr (Or.inr h3))), if_neg (fun g => (cmp_le f1).mp g h3)]
                    exact fnd2 h
                  · obtain ⟨i, hi, rfl⟩ := nI_of hb
                    obtain ⟨j, hj, rfl⟩ := nI_of hd
                    rw [nI_toInt hi, nI_toInt hm] at h1
                    rw [nI_toInt hj, nI_toInt hm] at h3
                    obtain ⟨g, k1, k2⟩ := copy_out (τ := τ) (r := r) (i := i) (m := m) hr (by omega)
                    obtain ⟨f, k3, k4, k5⟩ := copy_in (τ := sAr τ 8 g) (t := t) (j := j) (m := m) ht (by omega)
                    have hno : ¬ (nI i < 0 ∨ nI j < 0 ∨ (n1 : Int) < (nI i).toInt + (nI m).toInt ∨ (n3 : Int) < (nI j).toInt + (nI m).toInt) := by
                      rw [nI_toInt hi, nI_toInt hj, nI_toInt hm]
                      intro q
                      rcases q with q | q | q | q
                      · exact nI_pos hi q
                      · exact nI_pos hj q
                      · exact h1 q
                      · exact h3 q
                    rw [if_neg hno, if_pos ((cmp_le f1).mpr (by rw [nI_toInt hj, nI_toInt hm]; exact h3)), k1, B1_some, k3, B1_some, nI_clamp hi, nI_clamp hj, nI_clamp hm]
                    obtain ⟨w, nn, N, q, q1, q2, q3, -⟩ := id h
                    refine ⟨_, _, rfl, rfl, rfl, h.rset (Req.xAr (Req.yAr (Req.yAr h.eq (by decide)) (by decide)) (eqA_hi (by omega))) (fun k hk => rfl) (fun k hk => ?_) (fun k hk => ⟨rfl, ?_⟩) (fun k hk => ?_) ?_ ?_⟩
                    · rw [cA_sAr, if_neg (by omega)]
                    · rw [cA_sAr, if_neg (by omega)]
                    · rw [cA_sAr, if_neg (by omega), cA_sAr, if_neg (by omega)]
                    · refine q3.1.one (k := t) (fun i hi q => rfl) (fun i hi q => ?_) (fun i hi q => rfl) (fun i' hi' q j' hj' => ?_) (Or.inr ⟨n3, f1, f2, f3, fun p hp => ?_⟩)
                      · rw [cA_sAr, if_neg (by omega)]
                      · show f (40 * i' + j') = _
                        exact k5 _ (by omega)
                      · show _ = f (40 * t + p)
                        rw [cA_sAr, if_pos rfl]
                        unfold va_cpy
                        by_cases hp2 : j ≤ p ∧ p < j + m
                        · rw [if_pos hp2]
                          have e5 := k4 (p - j) (by omega)
                          rw [show 40 * t + j + (p - j) = 40 * t + p by omega, cA_sAr_at, k2 _ (by omega)] at e5
                          rw [e5, g4 _ (by omega)]
                          congr 1
                          omega
                        · rw [if_neg hp2, k5 _ (by omega), cA_sAr_ne _ (by decide), f4 p hp]
                    · exact q3.2.to (fun k hk => rfl) (fun k hk => by rw [cA_sAr, if_neg (by omega)])
    · rw [e3, e4, B1_some, B1_some, if_pos k00, if_pos k00]
      exact h.same _
  · rw [e1, e2, B1_some, B1_some, if_pos k00, if_pos k00]
    exact h.same _
theorem mean_loops {r n : Nat} (hr : r < 6) (hn : n ≤ 40) (g2 : cL σ (100 + r) = some n) (g3 : cA τ 6 r = nI n) (g4 : ∀ j, j < n → cA σ (100 + r) j = cA τ 7 (40 * r + j)) : Sim (lq3 (c_mean_L6 σ (nI r)) 0 0 0) (lq3 (m_mean_L4 (nI r) τ) 0 0 0) (fun p q => p.1 = q.2 ∧ p.2 = q.1) := by
  unfold lq3
  refine lp_sim n (fun k (p : Int64 × Int32 × Int32) (q : Int32 × Int64 × Int32) => k ≤ n ∧ p.2.2 = nI k ∧ q.2.2 = nI k ∧ p.1 = q.2.1 ∧ p.2.1 = q.1) _ ?_ (i := 0) ⟨by omega, nI_0.symm, nI_0.symm, rfl, rfl⟩
  rintro k ⟨s, c, x⟩ ⟨c', s', x'⟩ ⟨hk, hx, hx', hs, hc⟩
  dsimp only at hx hx' hs hc
  subst hx hx' hs hc
  have hxD := ixD_is (σ := σ) (b := 100) hr l6 g2
  by_cases hkn : k = n
  · subst hkn
    refine Or.inr ⟨(s, c), (c, s), ?_, ?_, rfl, rfl⟩
    · show c_mean_L6 σ (nI r) s c (nI k) = _
      unfold c_mean_L6
      rw [hxD, B1_some, g2, B1_some, if_pos (Int32.le_refl _)]
    · show m_mean_L4 (nI r) τ c s (nI k) = _
      unfold m_mean_L4
      rw [rdA_nI hr (by decide), B1_some, g3, if_pos (Int32.le_refl _)]
  · have hk2 : k < n := by omega
    have r7 : rdA 240 τ 7 (40 * nI r + nI k) = some (cA σ (100 + r) k) := by rw [ix40, rdA_nI (by omega) (by decide), g4 k hk2]
    have rD : rdD σ (100 + r) (nI k) = some (cA σ (100 + r) k) := rdD_nI g2 hk2 (by omega)
    by_cases hg : cA σ (100 + r) k = -999
    · refine Or.inl ⟨hk2, (s + 0, c + 0, nI k + 1), (c + 0, s + 0, nI k + 1), ?_, ?_, by omega, nI_1 k, nI_1 k, rfl, rfl⟩
      · show c_mean_L6 σ (nI r) s c (nI k) = _
        unfold c_mean_L6
        simp only [hxD, B1_some, g2, rD, if_neg (nI_ge hk2 (show n < 2 ^ 31 by omega)), if_pos hg, if_true]
      · show m_mean_L4 (nI r) τ c s (nI k) = _
        unfold m_mean_L4
        simp only [rdA_nI hr l6, B1_some, g3, r7, if_neg (nI_ge hk2 (show n < 2 ^ 31 by omega)), if_pos hg]
    · refine Or.inl ⟨hk2, (s + (cA σ (100 + r) k).toInt64, c + 1, nI k + 1), (c + 1, s + (cA σ (100 + r) k).toInt64, nI k + 1), ?_, ?_, by omega, nI_1 k, nI_1 k, rfl, rfl⟩
      · show c_mean_L6 σ (nI r) s c (nI k) = _
        unfold c_mean_L6
        simp only [hxD, B1_some, g2, rD, if_neg (nI_ge hk2 (show n < 2 ^ 31 by omega)), if_neg hg, if_neg k10]
      · show m_mean_L4 (nI r) τ c s (nI k) = _
        unfold m_mean_L4
        simp only [rdA_nI hr l6, B1_some, g3, r7, if_neg (nI_ge hk2 (show n < 2 ^ 31 by omega)), if_neg hg]
theorem i64_0 (c : Int32) : c.toInt64 = 0 ↔ c = 0 := by
  rw [← Int64.toInt_inj, ← Int32.toInt_inj, Jvm.Kit.i64_of_i32, Int64.toInt_zero, Int32.toInt_zero]
theorem s_mean (h : R σ τ) (a : Int32) : Sim (c_mean σ a) (m_mean τ a) Rq := by
  unfold c_mean m_mean
  rcases row_cases a with ⟨r, hr, rfl, e1, e2⟩ | ⟨e1, e2⟩
  · rw [e1, B1_some, if_neg k10, ixA_is hr (by decide), B1_some]
    rcases h.rw6 hr with ⟨g1, g2⟩ | ⟨n, g1, g2, g3, g4⟩
    · rw [askedRow_n h hr g2, B2_some, if_neg k0m3, g1, if_neg kSn]
      rw [show c_found σ 1 = _ from found_is σ (f := 1) (by decide) rfl, B2_some]
      exact ⟨_, _, rfl, rfl, rfl, h.found 1⟩
    · obtain ⟨⟨s, c⟩, ⟨c', s'⟩, k1, k2, k3, k4⟩ := mean_loops hr g1 g2 g3 g4
      dsimp only at k3 k4
      subst k3 k4
      rw [askedRow_s hr g1 g3, B2_some, if_pos k0le, g2, if_pos (kSm n), k1, k2, B2_some, B2_some]
      by_cases hc : c = 0
      · rw [if_pos ((i64_0 c).mpr hc), if_pos hc]
        rw [show c_found σ 4 = _ from found_is σ (f := 4) (by decide) rfl, show m_meets τ 4 = _ from meets_is τ (f := 4) (by decide) rfl, B2_some, B2_some]
        exact ⟨_, _, rfl, rfl, rfl, h.found 4⟩
      · rw [if_neg (fun g => hc ((i64_0 c).mp g)), if_neg hc, nzL_ok (fun g => hc ((i64_0 c).mp g)), B1_some]
        exact ⟨_, _, rfl, rfl, rfl, h.say rfl⟩
  · rw [e1, B1_some, if_pos k00, askedRow_0 e2, B2_some, if_neg k0m1]
    exact h.same _
end Rows2
