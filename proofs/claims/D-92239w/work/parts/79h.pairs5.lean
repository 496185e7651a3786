/-! plain law: pairs, joined -/
section Pairs5
variable {σ σ' σ0 τ τ' τ0 : St} {rr : Nat}
theorem pop6_le : ∀ S, S < 64 → pop S 6 ≤ 6 := by decide +kernel
theorem pairs_tail (h : R σ τ) {S : Nat} (hS : S < 64) (a2 : Int32) : Sim
      (B1 (c_isRow a2) fun v8 =>
      if v8 = 0 then
        (some ((-1), σ))
      else
        (B1 (ixA 6 a2) fun k9 =>
        if (cL σ (100 + k9)).isSome = true then
          (B1 (ixD σ 100 6 a2) fun k12 =>
          B1 (cL σ (100 + k12)) fun n14 =>
          if (nI n14) = 6 then
            (B2 (lq3 (c_pairs_L16 σ (nI S) a2) 1 1 0) fun x20 x21 =>
            if x20 = 0 then
              (B2 (c_found σ 3) fun v48 σ49 =>
              some (v48, σ49))
            else
              (if x21 = 0 then
                (some ((-4), σ))
              else
                (B1 (lq2 (c_pairs_L32) (sI σ 46 (-9)) 0) fun σ35 =>
                B1 (ixD σ35 100 6 a2) fun k38 =>
                B1 (c_tryPairs 4 σ35 (nI S) (100 + k38) 0) fun σ41 =>
                if (cI σ41 46) = (-9) then
                  (B2 (c_found σ41 1) fun v45 σ46 =>
                  some (v45, σ46))
                else
                  (B1 (cpA 6 6 σ41 45 0 43 0 6) fun σ42 =>
                  some (cI σ42 46, σ42)))))
          else
            (B2 (c_found σ 5) fun v51 σ52 =>
            some (v51, σ52)))
        else
          (B2 (c_found σ 1) fun v54 σ55 =>
          some (v54, σ55))))
      (B1 (m_isRow a2) fun v6 =>
      if v6 = 0 then
        (some ((-1), τ))
      else
        (B1 (rdA 6 τ 6 a2) fun v7 =>
        if 0 ≤ v7 then
          (B1 (rdA 6 τ 6 a2) fun v9 =>
          if v9 = 6 then
            (B2 (lq3 (m_pairs_L11 τ (nI S) a2) 1 1 0) fun x15 x16 =>
            if x15 = 0 then
              (B2 (m_meets τ 3) fun v59 σ60 =>
              some (v59, σ60))
            else
              (if x16 = 0 then
                (some ((-4), τ))
              else
                (B2 (lq3 (m_pairs_L27 (nI S) a2) τ 100000000 0) fun σ31 x32 =>
                if x32 = 100000000 then
                  (B2 (m_meets σ31 1) fun v56 σ57 =>
                  some (v56, σ57))
                else
                  (B1 (lq2 (m_pairs_L47) σ31 0) fun σ50 =>
                  some (x32, σ50)))))
          else
            (B2 (m_meets τ 5) fun v62 σ63 =>
            some (v62, σ63)))
        else
          (B2 (m_meets τ 1) fun v65 σ66 =>
          some (v65, σ66)))) Rq := by
  obtain ⟨w, n, N, q, hw⟩ := h.rw
  rcases row_cases a2 with ⟨rr, hrr, rfl, e1, e2⟩ | ⟨e1, e2⟩
  · rw [e1, e2, B1_some, B1_some, if_neg k10, if_neg k10, ixA_is hrr (by decide), B1_some, rdA_nI hrr (by decide), B1_some]
    rcases h.rw6 hrr with ⟨g1, g2⟩ | ⟨m, hm, g2, g3, g4⟩
    · rw [g1, if_neg kSn, g2, if_neg k90]
      exact found_meets2 h (f := 1) (by decide) rfl
    · rw [if_pos (show (cL σ (100 + rr)).isSome = true by rw [g2]; rfl), ixD_is hrr (by decide) g2, B1_some, g2, B1_some, g3, if_pos (nI_pos' (by omega)), B1_some]
      by_cases h6 : m = 6
      · subst h6
        obtain ⟨c1, c2⟩ := chk_both h hw hrr hS g2 g4
        rw [if_pos (show nI 6 = 6 from rfl), if_pos (show nI 6 = 6 from rfl), c1, c2, B2_some, B2_some]
        cases hgY : gY (cA σ (100 + rr)) 6 with
        | false =>
          rw [b01_f, if_pos k00, if_pos k00]
          exact found_meets2 h (f := 3) (by decide) rfl
        | true =>
          rw [b01_t, if_neg k10, if_neg k10]
          cases hgM : gM σ S 6 with
          | false =>
            rw [b01_f, if_pos k00, if_pos k00]
            exact h.same _
          | true =>
            rw [b01_t, if_neg k10, if_neg k10]
            have hY : rwY τ rr := fun j hj => by
              have := gY_all hgY j hj
              rw [← g4 j hj]
              rcases yard_cases (cA σ (100 + rr) j) with ⟨z, hz, ez, -, -⟩ | ⟨-, ez, -⟩
              · exact ⟨z, hz, ez⟩
              · rw [ez] at this
                exact absurd this some10
            obtain ⟨τ1, x, m1, m2, m3⟩ := codes_M h hY hrr hS
            have ci : ∃ f, lq2 (c_pairs_L32) (sI σ 46 (-9)) 0 = some (sAr (sI σ 46 (-9)) 44 f) ∧ ∀ j, j < 6 → f j = -9 := by
              have key : ∃ e, lq2 (c_pairs_L32) (sI σ 46 (-9)) 0 = some e ∧ ∃ f, e = sAr (sI σ 46 (-9)) 44 f ∧ ∀ j, j < 6 → f j = -9 := by
                unfold lq2
                refine lp_forI 6 (fun i (p : St × Int32) => i ≤ 6 ∧ p.2 = nI i ∧ ∃ f, p.1 = sAr (sI σ 46 (-9)) 44 f ∧ ∀ j, j < i → f j = -9) _ ?_ (i := 0) ⟨by omega, nI_0.symm, _, (sAr_self (sI σ 46 (-9)) 44).symm, fun j hj => absurd hj (Nat.not_lt_zero j)⟩
                rintro i ⟨s, z⟩ ⟨hi, hz, f, hs, hf⟩
                dsimp only at hz hs
                subst hz hs
                by_cases h6 : i = 6
                · subst h6
                  exact Or.inr ⟨_, by show c_pairs_L32 _ (nI 6) = _; unfold c_pairs_L32; rw [if_pos (by decide)], f, rfl, hf⟩
                · have hi2 : i < 6 := by omega
                  refine Or.inl ⟨hi2, (sAr (sI σ 46 (-9)) 44 (upd f i (-9)), nI i + 1), ?_, by omega, nI_1 i, _, rfl, fun j hj => ?_⟩
                  · show c_pairs_L32 _ (nI i) = _
                    unfold c_pairs_L32
                    rw [if_neg (show ¬ (6 : Int32) ≤ nI i from nI_ge (b := 6) hi2 (by decide)), wrA_nI hi2 (by decide), B1_some, sA_sAr]
                  · by_cases q : j = i
                    · rw [q, upd_at]
                    · rw [upd_ne _ q]; exact hf j (by omega)
              obtain ⟨e, k1, f, rfl, k2⟩ := key
              exact ⟨f, k1, k2⟩
            obtain ⟨f, i1, i2⟩ := ci
            have hC0 : ScC σ (sAr (sI σ 46 (-9)) 44 f) := (ScC.rfl.wI (by decide)).wAr (by decide)
            obtain ⟨σ1, t1, t2, t3, -⟩ := try_is h hY hrr g2 g4 3 S 0 (fun _ => -9) none (sAr (sI σ 46 (-9)) 44 f) hS (by have := pop6_le S hS; omega) (by omega) hC0 (fun j hj _ => by rw [cA_sAr_at]; exact i2 j hj) (Or.inl ⟨rfl, rfl⟩)
            have hR1 : R σ1 τ1 := h.scr t2 m2
            have t1' : c_tryPairs 4 (sAr (sI σ 46 (-9)) 44 f) (nI S) (100 + rr) 0 = some σ1 := t1
            rw [i1, B1_some, ixD_is (σ := sAr (sI σ 46 (-9)) 44 f) hrr (by decide) (show cL (sAr (sI σ 46 (-9)) 44 f) (100 + rr) = some 6 from g2), B1_some, t1', B1_some, m1, B2_some]
            rcases t3 with ⟨s1, s2⟩ | ⟨v, r, s1, s2, s3, s4⟩
            · rw [s1] at m3
              rcases m3 with ⟨-, r2⟩ | ⟨v, r, r1, -⟩
              · rw [if_pos s2, if_pos r2]
                exact found_meets2 hR1 (f := 1) (by decide) rfl
              · cases r1
            · rw [s1] at m3
              rcases m3 with ⟨r1, -⟩ | ⟨v', r', r1, r2, r3, r4⟩
              · cases r1
              · cases r1
                obtain ⟨g, w1, w2⟩ := cp_57 (τ := τ1) (step := m_pairs_L47) (a := 57) (b := 55) (by decide) (fun s x => rfl)
                have hcp : cpA 6 6 σ1 45 0 43 0 6 = some (sAr σ1 43 (va_cpy (cA σ1 45) (cA σ1 43) 0 0 6)) := cpA_is (dp := 0) (n := 6) (by decide) (by decide) (by decide) (by decide)
                rw [if_neg (by rw [s3]; exact nI_n9 (by omega)), if_neg (show ¬ x = 100000000 by rw [r3]; exact fun g => by have := (nI_eq (b := 100000000) (by omega) (by decide)).mp g; omega), hcp, w1, B1_some, B1_some]
                refine ⟨_, _, rfl, rfl, ?_, ?_⟩
                · show cI σ1 46 = x
                  rw [s3, r3]
                · refine hR1.prt (hR1.eq.wAr (by decide) ?_) (fun k => rfl) (fun k => rfl) (fun k _ hk => cA_sAr_ne _ hk _) (fun k hk => cA_sAr_ne _ hk _)
                  funext j
                  rw [w2]
                  unfold va_cpy
                  by_cases hj : j < 6
                  · rw [if_pos ⟨by omega, by omega⟩, if_pos hj, show 0 + (j - 0) = j by omega, s4 j hj, r4 j hj]
                  · rw [if_neg (by omega), if_neg hj, hR1.eq.A 43 55 (by decide)]
      · have hne : ¬ nI m = 6 := fun g => h6 ((nI_eq (b := 6) (by omega) (by decide)).mp g)
        rw [if_neg hne, if_neg hne]
        exact found_meets2 h (f := 5) (by decide) rfl
  · rw [e1, e2, B1_some, B1_some, if_pos k00, if_pos k00]
    exact h.same _
theorem s_pairs (h : R σ τ) (a b : Int32) : Sim (c_pairs σ a b) (m_pairs τ a b) Rq := by
  unfold c_pairs m_pairs
  rcases rng_cases a 63 (N := 63) (by decide) with ⟨S, hS, rfl, e1⟩ | ⟨-, e1⟩
  · have hS2 : S < 64 := by omega
    have hp := pop6_le S hS2
    rw [e1, B1_some, if_neg k10, bcf_is (by omega), bits_is (by omega), B1_some, B1_some, B1_some, m_in_c, e1, B1_some, if_neg k10, pop6_14 S hS2]
    generalize hpp : pop S 6 = p at hp
    have : p = 0 ∨ p = 1 ∨ p = 2 ∨ p = 3 ∨ p = 4 ∨ p = 5 ∨ p = 6 := by omega
    rcases this with rfl | rfl | rfl | rfl | rfl | rfl | rfl
    · rw [if_pos (show nI 0 < 2 by decide), if_neg (show ¬ nI 0 = 2 by decide), if_neg (show ¬ nI 0 = 4 by decide), if_neg (show ¬ nI 0 = 6 by decide)]
      exact h.same _
    · rw [if_pos (show nI 1 < 2 by decide), if_neg (show ¬ nI 1 = 2 by decide), if_neg (show ¬ nI 1 = 4 by decide), if_neg (show ¬ nI 1 = 6 by decide)]
      exact h.same _
    · rw [if_neg (show ¬ nI 2 < 2 by decide), if_neg (show ¬ nI 2 - nI 2 / 2 * 2 = 1 by decide), if_pos (show nI 2 = 2 by decide)]
      exact pairs_tail h hS2 b
    · rw [if_neg (show ¬ nI 3 < 2 by decide), if_pos (show nI 3 - nI 3 / 2 * 2 = 1 by decide), if_neg (show ¬ nI 3 = 2 by decide), if_neg (show ¬ nI 3 = 4 by decide), if_neg (show ¬ nI 3 = 6 by decide)]
      exact h.same _
    · rw [if_neg (show ¬ nI 4 < 2 by decide), if_neg (show ¬ nI 4 - nI 4 / 2 * 2 = 1 by decide), if_neg (show ¬ nI 4 = 2 by decide), if_pos (show nI 4 = 4 by decide)]
      exact pairs_tail h hS2 b
    · rw [if_neg (show ¬ nI 5 < 2 by decide), if_pos (show nI 5 - nI 5 / 2 * 2 = 1 by decide), if_neg (show ¬ nI 5 = 2 by decide), if_neg (show ¬ nI 5 = 4 by decide), if_neg (show ¬ nI 5 = 6 by decide)]
      exact h.same _
    · rw [if_neg (show ¬ nI 6 < 2 by decide), if_neg (show ¬ nI 6 - nI 6 / 2 * 2 = 1 by decide), if_neg (show ¬ nI 6 = 2 by decide), if_neg (show ¬ nI 6 = 4 by decide), if_pos (show nI 6 = 6 by decide)]
      exact pairs_tail h hS2 b
  · obtain ⟨v, hv⟩ := bits_tot a
    rw [e1, B1_some, if_pos k00, B1_some, if_pos (show (0 : Int32) < 2 by decide), hv, B1_some, m_in_c, e1, B1_some, if_pos k00]
    exact h.same _
end Pairs5
