/-! plain law: rent, whole -/
section Rent3
variable {σ σ' τ τ' : St}
theorem R.rnt (h : R σ τ) (hq : Req σ' τ') (hI : ∀ k ∈ [5, 16, 34, 40, 58], cI τ' k = cI τ k) (h69 : isN (cI τ' 69) 40) (hL : ∀ k, cL σ' k = cL σ k) (hA : ∀ k, 33 ≤ k → k ≠ 59 → k ≠ 60 → cA σ' k = cA σ k) (hM : ∀ k, k ≠ 70 → cA τ' k = cA τ k) : R σ' τ' := by
  obtain ⟨w, n, N, q, h1, h2, h3, h4, h5, h6, h7, h8, h9, h10⟩ := h
  refine ⟨w, n, N, q, ?_, hq, ?_, ?_, ?_, ?_, ?_, ?_, ?_, ?_⟩
  · unfold Cn
    rw [hI 5 (by decide), hI 16 (by decide), hI 34 (by decide), hI 40 (by decide)]
    exact h1
  · rw [hM 6 (by decide), hM 7 (by decide), hM 9 (by decide), hM 10 (by decide)]
    exact ⟨h3.1.to (fun k _ => hL _) (fun k _ => hA _ (by omega) (by omega) (by omega)), h3.2.to (fun k _ => hL _) (fun k _ => hA _ (by omega) (by omega) (by omega))⟩
  · exact h4.to (fun k _ => hL k) (fun k hk => hA k (by omega) (by omega) (by omega)) (fun k hk => hM k (by
      have : ∀ k ∈ dynM, k ≠ 70 := by decide
      exact this k hk))
  · rw [hA 36 (by decide) (by decide) (by decide), hA 37 (by decide) (by decide) (by decide), hA 38 (by decide) (by decide) (by decide), hA 39 (by decide) (by decide) (by decide), hM 43 (by decide), hM 41 (by decide), hM 42 (by decide)]
    exact h5
  · rw [hI 58 (by decide), hA 48 (by decide) (by decide) (by decide), hM 59 (by decide)]
    exact ⟨h6.1, h6.2.1, h69⟩
  · rw [hM 35 (by decide), hM 36 (by decide), hM 37 (by decide), hM 38 (by decide), hM 39 (by decide), hM 20 (by decide), hM 26 (by decide)]
    exact h7
  · rw [hM 18 (by decide), hM 19 (by decide), hM 20 (by decide), hM 29 (by decide), hM 30 (by decide), hM 31 (by decide)]
    exact h8
  · rw [hM 21 (by decide), hM 22 (by decide), hM 23 (by decide)]
    exact h9
  · rw [hM 11 (by decide), hM 12 (by decide), hM 13 (by decide), hM 14 (by decide)]
    exact h10
/-- all of a row lie from 0 to 9 -/
def gd (f : Nat → Int32) : Nat → Bool
  | 0 => true
  | k + 1 => gd f k && decide (¬ f k < 0 ∧ ¬ 9 < f k)
theorem gd_all {f : Nat → Int32} : ∀ {k : Nat}, gd f k = true → ∀ i, i < k → ¬ f i < 0 ∧ ¬ 9 < f i
  | 0, _, i, hi => absurd hi (Nat.not_lt_zero i)
  | k + 1, h, i, hi => by
    rw [gd, Bool.and_eq_true] at h
    by_cases q : i = k
    · subst q; exact of_decide_eq_true h.2
    · exact gd_all h.1 i (by omega)
theorem gd_no {f : Nat → Int32} {i : Nat} (hi : ¬ (¬ f i < 0 ∧ ¬ 9 < f i)) : ∀ {k : Nat}, i < k → gd f k = false := fun {k} hk => by
  cases hg : gd f k with
  | false => rfl
  | true => exact absurd (gd_all hg i hk) hi
theorem b01_and : ∀ a b : Bool, b01 a &&& b01 b = b01 (a && b) := by decide
theorem in09 (v : Int32) : c_in v 0 9 = some (b01 (decide (¬ v < 0 ∧ ¬ 9 < v))) := by
  by_cases g : ¬ v < 0 ∧ ¬ 9 < v
  · rw [c_in_t g.1 g.2, decide_eq_true g]; rfl
  · rw [c_in_f (Classical.byContradiction fun q => g ⟨fun q1 => q (Or.inl q1), fun q1 => q (Or.inr q1)⟩), decide_eq_false g]; rfl
theorem s_rent (h : R σ τ) (a b c d e : Int32) : Sim (c_rent σ a b c d e) (m_rent τ a b c d e) Rq := by
  unfold c_rent m_rent
  rcases row_cases a with ⟨rr, hrr, rfl, e1, e2⟩ | ⟨e1, e2⟩
  · rw [e1, e2, B1_some, B1_some, if_neg k10, if_neg k10, m_in_c]
    rcases rng_cases b 9 (N := 9) (by decide) with ⟨own, ho, rfl, e3⟩ | ⟨-, e3⟩
    · rw [e3, B1_some, B1_some, if_neg k10, if_neg k10, m_in_c]
      rcases rng_cases c 1000 (N := 1000) (by decide) with ⟨fee, h1, rfl, e4⟩ | ⟨-, e4⟩
      · rw [e4, B1_some, B1_some, if_neg k10, if_neg k10, m_in_c]
        rcases rng_cases d 1000 (N := 1000) (by decide) with ⟨ftc, h2, rfl, e5⟩ | ⟨-, e5⟩
        · rw [e5, B1_some, B1_some, if_neg k10, if_neg k10, m_in_c]
          rcases rng_cases e 1000 (N := 1000) (by decide) with ⟨lck, h3, rfl, e6⟩ | ⟨-, e6⟩
          · rw [e6, B1_some, B1_some, if_neg k10, if_neg k10, ixA_is hrr (by decide), B1_some, rdA_nI hrr (by decide), B1_some]
            rcases h.rw6 hrr with ⟨g1, g2⟩ | ⟨n, hn, g2, g3, g4⟩
            · rw [g1, if_neg kSn, g2, if_neg k90]
              exact found_meets2 h (f := 1) (by decide) rfl
            · rw [g2, if_pos (kSm n), g3, if_pos (nI_pos' (by omega)), B1_some, B1_some, B1_some]
              by_cases h0 : n = 0
              · subst h0
                rw [if_pos nI_0, if_pos nI_0]
                exact found_meets2 h (f := 5) (by decide) rfl
              · have hn0 : ¬ nI n = 0 := nI_ne0 (by omega) (by omega)
                rw [if_neg hn0, if_neg hn0]
                have cl : ∃ x, lq2 (c_rent_L16 σ rr) 1 0 = some x ∧ x = b01 (gd (cA σ (100 + rr)) n) := by
                  unfold lq2
                  refine lp_forI n (fun k (p : Int32 × Int32) => k ≤ n ∧ p.2 = nI k ∧ p.1 = b01 (gd (cA σ (100 + rr)) k)) _ ?_ (i := 0) ⟨by omega, nI_0.symm, rfl⟩
                  rintro k ⟨x, z⟩ ⟨hk, hz, hx⟩
                  dsimp only at hz hx
                  subst hz hx
                  by_cases hkn : k = n
                  · subst hkn
                    refine Or.inr ⟨_, ?_, rfl⟩
                    show c_rent_L16 σ rr _ (nI k) = _
                    unfold c_rent_L16
                    rw [g2, B1_some, if_pos (Int32.le_refl _)]
                  · have hk2 : k < n := by omega
                    refine Or.inl ⟨hk2, (b01 (gd (cA σ (100 + rr)) (k + 1)), nI k + 1), ?_, by omega, nI_1 k, rfl⟩
                    show c_rent_L16 σ rr _ (nI k) = _
                    unfold c_rent_L16
                    rw [g2, B1_some, if_neg (nI_ge hk2 (by omega)), rdD_nI g2 hk2 (by omega), B1_some, in09, B1_some, b01_and]
                    rfl
                have ml : ∃ x, lq1 (m_rent_L15 τ (nI rr) (nI n)) 0 = some x ∧ ((x = Sum.inl () ∧ gd (cA σ (100 + rr)) n = true) ∨ (x = Sum.inr (-3, sA (sI τ 0 3) 1 3 (cA τ 1 3 + 1)) ∧ gd (cA σ (100 + rr)) n = false)) := by
                  unfold lq1
                  refine lp_forI n (fun k (p : Int32) => k ≤ n ∧ p = nI k ∧ gd (cA σ (100 + rr)) k = true) _ ?_ (i := 0) ⟨by omega, nI_0.symm, rfl⟩
                  rintro k z ⟨hk, rfl, hx⟩
                  by_cases hkn : k = n
                  · subst hkn
                    refine Or.inr ⟨Sum.inl (), ?_, Or.inl ⟨rfl, hx⟩⟩
                    show m_rent_L15 τ (nI rr) _ (nI k) = _
                    unfold m_rent_L15
                    rw [if_pos (Int32.le_refl _)]
                  · have hk2 : k < n := by omega
                    have hst : m_rent_L15 τ (nI rr) (nI n) (nI k) = (if b01 (decide (¬ cA σ (100 + rr) k < 0 ∧ ¬ 9 < cA σ (100 + rr) k)) = 0 then some (Sum.inr (Sum.inr (-3, sA (sI τ 0 3) 1 3 (cA τ 1 3 + 1)))) else some (Sum.inl (nI k + 1))) := by
                      unfold m_rent_L15
                      rw [if_neg (nI_ge hk2 (by omega)), ix40, rdA_nI (by omega) (by decide), B1_some, ← g4 k hk2, m_in_c, in09, B1_some, meets_is τ (f := 3) (x := 3) (by decide) rfl, B2_some]
                    by_cases g : ¬ cA σ (100 + rr) k < 0 ∧ ¬ 9 < cA σ (100 + rr) k
                    · rw [decide_eq_true g, b01_t, if_neg k10] at hst
                      refine Or.inl ⟨hk2, nI k + 1, hst, by omega, nI_1 k, ?_⟩
                      rw [gd, hx, decide_eq_true g]
                      rfl
                    · rw [decide_eq_false g, b01_f, if_pos k00] at hst
                      exact Or.inr ⟨_, hst, Or.inr ⟨rfl, gd_no g hk2⟩⟩
                obtain ⟨x1, c1, rfl⟩ := cl
                obtain ⟨x2, c2, c3⟩ := ml
                rw [c1, c2, B1_some]
                rcases c3 with ⟨rfl, c4⟩ | ⟨rfl, c4⟩
                · rw [BR1_l, c4, b01_t, if_neg k10]
                  have hr : ∀ i, i < n → nN (cA σ (100 + rr) i) < 10 ∧ cA σ (100 + rr) i = nI (nN (cA σ (100 + rr) i)) := fun i hi => by
                    obtain ⟨q1, q2⟩ := gd_all c4 i hi
                    obtain ⟨j, hj, q3⟩ := nI_of2 (M := 9) (n := 9) (by decide) q1 (Int32.not_lt.mp q2)
                    rw [q3, nN_nI (by omega)]
                    exact ⟨by omega, rfl⟩
                  obtain ⟨f0, d1, d2⟩ := rent_28 (σ := σ) hn
                  obtain ⟨f0', d1', d2'⟩ := rent_25 (τ := τ) hn
                  have t0 : tbC own fee ftc lck (fun i => nN (cA σ (100 + rr) i)) n 0 f0 := fun k hk x hx => by
                    have : k = 0 := by omega
                    subst this
                    exact d2 x hx
                  have t0' : tbM own fee ftc lck (fun i => nN (cA σ (100 + rr) i)) n 0 f0' := fun k hk x hx => by
                    have : k = 0 := by omega
                    subst this
                    exact d2' x hx
                  have hrM : ∀ i, i < n → nN (cA σ (100 + rr) i) < 10 ∧ cA τ 7 (40 * rr + i) = nI (nN (cA σ (100 + rr) i)) := fun i hi => ⟨(hr i hi).1, by rw [← g4 i hi]; exact (hr i hi).2⟩
                  obtain ⟨f1, d3, d4⟩ := rent_34 (σ := σ) (rr := rr) (r := fun i => nN (cA σ (100 + rr) i)) h1 h2 h3 (show own < 10 by omega) hn g2 hr t0
                  obtain ⟨f1', d3', d4'⟩ := rent_31 (τ := τ) (rr := rr) (r := fun i => nN (cA σ (100 + rr) i)) h1 h2 h3 (show own < 10 by omega) hn hrr hrM t0'
                  rw [d1, d1', B1_some, B1_some, d3, d3', B1_some, B1_some]
                  have key : Sim (lq3 (c_rent_L54 (nI own) (nI fee) (nI ftc) (nI lck) rr n) (sI (sAr σ 60 f1) 58 (nI n)) 0 0) (lq3 (m_rent_L53 (nI rr) (nI own) (nI fee) (nI ftc) (nI lck) (nI n)) (sI (sBr τ f1') 69 (nI n)) 0 0) (fun s t => ∃ f, s = sAr (sI (sAr σ 60 f1) 58 (nI n)) 59 f ∧ t = sAr (sI (sBr τ f1') 69 (nI n)) 70 f) := by
                    unfold lq3
                    refine lp_sim n (fun i (p p' : St × Int32 × Int32) => i ≤ n ∧ p.2.2 = nI i ∧ p'.2.2 = nI i ∧ ∃ x f, x < 10 ∧ p.2.1 = nI x ∧ p'.2.1 = nI x ∧ p.1 = sAr (sI (sAr σ 60 f1) 58 (nI n)) 59 f ∧ p'.1 = sAr (sI (sBr τ f1') 69 (nI n)) 70 f) _ ?_ (i := 0) ⟨by omega, nI_0.symm, nI_0.symm, 0, cA τ 70, by omega, nI_0.symm, nI_0.symm, ?_, (sAr_self (sI (sBr τ f1') 69 (nI n)) 70).symm⟩
                    · rintro i ⟨s, x, z⟩ ⟨s', x', z'⟩ ⟨hi, hz, hz', x0, f, hx0, hx, hx', hs, hs'⟩
                      dsimp only at hz hz' hx hx' hs hs'
                      subst hz hz' hx hx' hs hs'
                      by_cases hin : i = n
                      · subst hin
                        refine Or.inr ⟨_, _, ?_, ?_, f, rfl, rfl⟩
                        · show c_rent_L54 _ _ _ _ _ _ _ _ (nI i) = _
                          unfold c_rent_L54
                          rw [if_pos (Int32.le_refl _)]
                        · show m_rent_L53 _ _ _ _ _ _ _ _ (nI i) = _
                          unfold m_rent_L53
                          rw [if_pos (Int32.le_refl _)]
                      · have hi2 : i < n := by omega
                        obtain ⟨y, hy, p1, p2⟩ := rent_pick (σ := sAr (sI (sAr σ 60 f1) 58 (nI n)) 59 f) (τ := sAr (sI (sBr τ f1') 69 (nI n)) 70 f) (rr := rr) (r := fun i => nN (cA σ (100 + rr) i)) (own := own) h1 h2 h3 (by omega) hn hrr g2 (fun j hj => ⟨(hr j hj).1, by
                          rw [cA_sAr_ne _ (by omega), cA_sI, cA_sAr_ne _ (by omega)]
                          exact (hr j hj).2, (hrM j hj).2⟩) d4 d4' hi2 hx0
                        refine Or.inl ⟨hi2, (sAr (sI (sAr σ 60 f1) 58 (nI n)) 59 (upd f i (nI y)), nI y, nI i + 1), (sAr (sI (sBr τ f1') 69 (nI n)) 70 (upd f i (nI y)), nI y, nI i + 1), ?_, ?_, by omega, nI_1 i, nI_1 i, y, _, hy, rfl, rfl, rfl, rfl⟩
                        · show c_rent_L54 _ _ _ _ _ _ _ _ (nI i) = _
                          unfold c_rent_L54
                          rw [if_neg (nI_ge hi2 (by omega)), p1, B1_some, wrA_nI (by omega) (by decide), B1_some, sA_sAr]
                        · show m_rent_L53 _ _ _ _ _ _ _ _ (nI i) = _
                          unfold m_rent_L53
                          rw [if_neg (nI_ge hi2 (by omega)), p2, B1_some, wrA_nI (by omega) (by decide), B1_some, sA_sAr]
                    · show sI (sAr σ 60 f1) 58 (nI n) = _
                      rw [← h.eq.A 59 70 (by decide)]
                      exact (sAr_self (sI (sAr σ 60 f1) 58 (nI n)) 59).symm
                  obtain ⟨s, t, k1, k2, f, rfl, rfl⟩ := key
                  have v0 : f1 0 = nI (vv (fun i => cst own fee ftc lck (nN (cA σ (100 + rr) i))) n n 0) := by
                    have := d4 n (Nat.le_refl _) 0 (by omega)
                    rw [Nat.sub_self] at this
                    exact this
                  have v0' : f1' 0 = nL (vv (fun i => cst own fee ftc lck (nN (cA σ (100 + rr) i))) n n 0) := by
                    have := d4' n (Nat.le_refl _) 0 (by omega)
                    rw [Nat.sub_self] at this
                    exact this
                  have r1 : rdA 410 (sAr (sI (sAr σ 60 f1) 58 (nI n)) 59 f) 60 0 = some (f1 0) := rdA_nI (j := 0) (by decide) (by decide)
                  have r2 : rdB 410 (sAr (sI (sBr τ f1') 69 (nI n)) 70 f) 71 0 = some (f1' 0) := rdB_nI (j := 0) (by decide) (by decide)
                  rw [k1, k2, B1_some, B1_some, r1, r2, B1_some, B1_some, v0, v0']
                  refine ⟨_, _, rfl, rfl, ?_, ?_⟩
                  · show _ = (nL _).toInt32
                    unfold nL
                    rw [lg_l2i_i2l]
                  · have hR2 : R (sAr σ 60 f1) (sBr τ f1') := h.scr (ScC.rfl.wAr (by decide)) ⟨fun _ _ => rfl, fun _ _ => rfl, fun _ _ => rfl⟩
                    refine hR2.rnt ((hR2.eq.wI (by decide) rfl).wAr (by decide) rfl) (fun k hk => ?_) ⟨n, hn, rfl⟩ (fun k => rfl) (fun k hk h5 h6 => cA_sAr_ne _ h5 _) (fun k hk => cA_sAr_ne _ hk _)
                    show cI (sI (sBr τ f1') 69 (nI n)) k = _
                    rw [cI_sI, if_neg (fun q => by subst q; revert hk; decide)]
                · rw [BR1_r, c4, b01_f, if_pos k00]
                  rw [found_is σ (f := 3) (x := 3) (by decide) rfl, B2_some]
                  exact ⟨_, _, rfl, rfl, rfl, h.found 3⟩
          · rw [e6, B1_some, B1_some, if_pos k00, if_pos k00]
            exact h.same _
        · rw [e5, B1_some, B1_some, if_pos k00, if_pos k00]
          exact h.same _
      · rw [e4, B1_some, B1_some, if_pos k00, if_pos k00]
        exact h.same _
    · rw [e3, B1_some, B1_some, if_pos k00, if_pos k00]
      exact h.same _
  · rw [e1, e2, B1_some, B1_some, if_pos k00, if_pos k00]
    exact h.same _
end Rent3
