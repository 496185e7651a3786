/-! plain law: fault, terms -/
section Terms
variable {σ σ' τ τ' : St}
theorem read_step {t n i m : Nat} (ht : t < 4) (hn : n ≤ 40) (hL : cL σ (110 + t) = some n) (htx : ∀ j, j < n → cA σ (110 + t) j = cA τ 10 (40 * t + j)) (hS : ItS σ τ σ' τ' m) (hm : 2 * m ≤ i) (hin : i < n) :
    (∃ σ2 τ2 j, j ≤ n ∧ i < j ∧ c_read_L1 (110 + t) σ' (nI i) = some (Sum.inl (σ2, nI j)) ∧ m_reads_L9 (nI t) (nI n) τ' (nI i) = some (Sum.inl (τ2, nI j)) ∧ ∃ m2, 2 * m2 ≤ j ∧ ItS σ τ σ2 τ2 m2) ∨
    (∃ p, p ≤ 40 ∧ c_read_L1 (110 + t) σ' (nI i) = some (Sum.inr (Sum.inr (nI p, σ'))) ∧ m_reads_L9 (nI t) (nI n) τ' (nI i) = some (Sum.inr (Sum.inr (nI p, τ')))) := by
  have hc := hS.1
  have hmm := hS.2.1
  have hL' : cL σ' (110 + t) = some n := by rw [hc.2.2.2]; exact hL
  have hA' : cA σ' (110 + t) = cA σ (110 + t) := hc.2.2.1 _ (sc_hi (by omega))
  have hT' : cA τ' 10 = cA τ 10 := hmm.2.2 10 (by decide)
  have htx' : ∀ j, j < n → cA σ' (110 + t) j = cA τ' 10 (40 * t + j) := fun j hj => by rw [hA', hT']; exact htx j hj
  have r10 : rdA 160 τ' 10 (40 * nI t + nI i) = some (cA σ' (110 + t) i) := by rw [ix40, rdA_nI (by omega) (by decide), ← htx' _ hin]
  have rD : rdD σ' (110 + t) (nI i) = some (cA σ' (110 + t) i) := rdD_nI hL' hin (by omega)
  have hge : ¬ nI n ≤ nI i := nI_ge hin (by omega)
  generalize hcc : cA σ' (110 + t) i = c at r10 rD
  have hCl : c_read_L1 (110 + t) σ' (nI i) = (if c = 32 then some (Sum.inl (σ', nI i + 1)) else (B1 (c_whatOf c) fun v12 => if v12 = (-9) then some (Sum.inr (Sum.inr (nI i, σ'))) else (if 2 ≤ v12 then c_read_K13 (110 + t) σ' v12 (nI i + 1) 0 else (B1 (c_isFigure σ' (110 + t) (nI i + 1) 7) fun v35 => if v35 = 0 then some (Sum.inr (Sum.inr (nI i + 1, σ'))) else (B1 (rdD σ' (110 + t) (nI i + 1)) fun v36 => c_read_K13 (110 + t) σ' v12 ((nI i + 1) + 1) (v36 - 48)))))) := by
    unfold c_read_L1
    rw [hL', B1_some, if_neg hge, rD, B1_some, B1_some]
  rw [whatOf_is] at hCl
  have hMo : m_reads_L9 (nI t) (nI n) τ' (nI i) = (if c = 32 then some (Sum.inl (τ', nI i + 1)) else (if c = 70 then m_reads_K15 (nI t) (nI n) τ' (nI i) c else (if c = 68 then m_reads_K15 (nI t) (nI n) τ' (nI i) c else (if c = 72 then m_reads_K15 (nI t) (nI n) τ' (nI i) c else (if c = 82 then m_reads_K15 (nI t) (nI n) τ' (nI i) c else some (Sum.inr (Sum.inr ((nI i + 1) - 1, τ')))))))) := by
    unfold m_reads_L9
    rw [if_neg hge, r10, B1_some]
  by_cases h32 : c = 32
  · rw [if_pos h32] at hCl hMo
    exact Or.inl ⟨σ', τ', i + 1, by omega, by omega, by rw [hCl, nI_1], by rw [hMo, nI_1], m, by omega, hS⟩
  rw [if_neg h32] at hCl hMo
  by_cases h70 : c = 70
  · subst h70
    rw [if_pos rfl, B1_some, if_neg (by decide), if_neg (by decide)] at hCl
    rw [if_pos rfl] at hMo
    refine read_yard (w := 0) (ab0 := 0) (c := 70) ht hn hL htx hS hm hin (by decide) rfl hCl ?_
    rw [hMo]
    unfold m_reads_K15
    rw [if_neg (by decide), if_neg (by decide), if_neg (by decide), B1_some, if_neg (by decide)]
    rfl
  rw [if_neg h70] at hCl hMo
  by_cases h68 : c = 68
  · subst h68
    rw [if_pos rfl, B1_some, if_neg (by decide), if_neg (by decide)] at hCl
    rw [if_pos rfl] at hMo
    refine read_yard (w := 1) (ab0 := 8) (c := 68) ht hn hL htx hS hm hin (by decide) rfl hCl ?_
    rw [hMo]
    unfold m_reads_K15
    rw [if_neg (by decide), if_neg (by decide), if_pos rfl, B1_some, if_neg (by decide)]
    rfl
  rw [if_neg h68] at hCl hMo
  by_cases h72 : c = 72
  · subst h72
    rw [if_pos rfl, B1_some, if_neg (by decide), if_pos (by decide), nI_1] at hCl
    rw [if_pos rfl] at hMo
    unfold m_reads_K15 at hMo
    rw [if_pos rfl, B1_some, if_pos (by decide), nI_1] at hMo
    rcases read_tail (i := i) (p := i + 1) (w := 2) (y := 0) (ab := 16) ht hn hL htx hS hm (by omega) (by omega) (by decide) (by decide) (by decide) (by decide) with ⟨σ2, τ2, j, g1, g2, g3, g4, g5⟩ | ⟨g1, g2⟩
    · exact Or.inl ⟨σ2, τ2, j, g1, g2, hCl.trans g3, hMo.trans g4, g5⟩
    · exact Or.inr ⟨i + 1, by omega, hCl.trans g1, hMo.trans g2⟩
  rw [if_neg h72] at hCl hMo
  by_cases h82 : c = 82
  · subst h82
    rw [if_pos rfl, B1_some, if_neg (by decide), if_pos (by decide), nI_1] at hCl
    rw [if_pos rfl] at hMo
    unfold m_reads_K15 at hMo
    rw [if_neg (by decide), if_pos rfl, B1_some, if_pos (by decide), nI_1] at hMo
    rcases read_tail (i := i) (p := i + 1) (w := 3) (y := 0) (ab := 17) ht hn hL htx hS hm (by omega) (by omega) (by decide) (by decide) (by decide) (by decide) with ⟨σ2, τ2, j, g1, g2, g3, g4, g5⟩ | ⟨g1, g2⟩
    · exact Or.inl ⟨σ2, τ2, j, g1, g2, hCl.trans g3, hMo.trans g4, g5⟩
    · exact Or.inr ⟨i + 1, by omega, hCl.trans g1, hMo.trans g2⟩
  rw [if_neg h82, B1_some, if_pos rfl] at hCl
  rw [if_neg h82, nI_1, show nI (i + 1) - 1 = nI i from nI_pred i] at hMo
  exact Or.inr ⟨i, by omega, hCl, hMo⟩
theorem items_fill : ∃ g, lq2 (m_reads_L3) τ 0 = some (sAr τ 44 g) ∧ ∀ b, b < 18 → g b = -9 := by
  have key : ∃ e, lq2 (m_reads_L3) τ 0 = some e ∧ ∃ g, e = sAr τ 44 g ∧ ∀ b, b < 18 → g b = -9 := by
    unfold lq2
    refine lp_forI 18 (fun i (q : St × Int32) => i ≤ 18 ∧ q.2 = nI i ∧ ∃ g, q.1 = sAr τ 44 g ∧ ∀ b, b < i → g b = -9) _ ?_ (i := 0) ⟨by omega, nI_0.symm, cA τ 44, (sAr_self τ 44).symm, fun j hj => absurd hj (Nat.not_lt_zero j)⟩
    rintro i ⟨τ1, x⟩ ⟨hi, hx, f, hσ, h1⟩
    dsimp only at hx hσ
    subst hx hσ
    by_cases h8 : i = 18
    · subst h8
      exact Or.inr ⟨_, by show m_reads_L3 _ (nI 18) = _; unfold m_reads_L3; rw [if_pos (by decide)], f, rfl, h1⟩
    · have hi8 : i < 18 := by omega
      refine Or.inl ⟨hi8, (sAr τ 44 (upd f i (-9)), nI i + 1), ?_, by omega, nI_1 i, _, rfl, fun j hj => ?_⟩
      · show m_reads_L3 (sAr τ 44 f) (nI i) = _
        unfold m_reads_L3
        rw [if_neg (show ¬ (18 : Int32) ≤ nI i from nI_ge (b := 18) hi8 (by decide)), wrA_nI hi8 (by decide), B1_some, sA1]
      · by_cases q : j = i
        · subst q; rw [upd_at]
        · rw [upd_ne _ (by omega)]; exact h1 j (by omega)
  obtain ⟨e, k1, g, rfl, k2⟩ := key
  exact ⟨g, k1, k2⟩
theorem read_is {t n : Nat} (ht : t < 4) (hn : n ≤ 40) (hL : cL σ (110 + t) = some n) (g3 : cA τ 9 t = nI n) (htx : ∀ j, j < n → cA σ (110 + t) j = cA τ 10 (40 * t + j)) :
    ∃ v σ' τ' m, c_read σ (110 + t) = some (v, σ') ∧ m_reads τ (nI t) = some (v, τ') ∧ m ≤ 20 ∧ ItS σ τ σ' τ' m := by
  obtain ⟨g, f1, f2⟩ := items_fill (τ := τ)
  have hS0 : ItS σ τ (sI σ 7 0) (sAr τ 44 g) 0 := ⟨ScC.rfl.wI (by decide), ScM.rfl.wAr (by decide), rfl, fun k hk => absurd hk (Nat.not_lt_zero k), fun b hb => by rw [cA_sAr_at, f2 b hb]; rfl⟩
  have key : Sim (lq2 (c_read_L1 (110 + t)) (sI σ 7 0) 0) (lq2 (m_reads_L9 (nI t) (nI n)) (sAr τ 44 g) 0) (RdQ σ τ) := by
    unfold lq2
    refine lp_sim n (fun k (x y : St × Int32) => ∃ i m, k ≤ i ∧ i ≤ n ∧ 2 * m ≤ i ∧ x.2 = nI i ∧ y.2 = nI i ∧ ItS σ τ x.1 y.1 m) _ ?_ (i := 0) ⟨0, 0, by omega, by omega, by omega, nI_0.symm, nI_0.symm, hS0⟩
    rintro k ⟨σ1, x⟩ ⟨τ1, y⟩ ⟨i, m, hki, hin, hm, hx, hy, hS⟩
    dsimp only at hx hy hS
    subst hx hy
    have hL' : cL σ1 (110 + t) = some n := by rw [hS.1.2.2.2]; exact hL
    by_cases hi : i = n
    · subst hi
      refine Or.inr ⟨Sum.inl σ1, Sum.inl τ1, ?_, ?_, m, σ1, τ1, by omega, hS, Or.inl ⟨rfl, rfl⟩⟩
      · show c_read_L1 (110 + t) σ1 (nI i) = _
        unfold c_read_L1
        rw [hL', B1_some, if_pos (Int32.le_refl _)]
      · show m_reads_L9 (nI t) (nI i) τ1 (nI i) = _
        unfold m_reads_L9
        rw [if_pos (Int32.le_refl _)]
    · rcases read_step ht hn hL htx hS hm (by omega) with ⟨σ2, τ2, j, q1, q2, q3, q4, m2, q5, q6⟩ | ⟨p, q1, q2, q3⟩
      · exact Or.inl ⟨by omega, (σ2, nI j), (τ2, nI j), q3, q4, j, m2, by omega, q1, q5, rfl, rfl, q6⟩
      · exact Or.inr ⟨_, _, q2, q3, m, σ1, τ1, by omega, hS, Or.inr ⟨p, q1, rfl, rfl⟩⟩
  obtain ⟨x, y, k1, k2, m, σ', τ', hm, hS, hxy⟩ := key
  unfold c_read m_reads
  rw [k1, rdA_nI ht (by decide), B1_some, g3, f1, B1_some, k2]
  rcases hxy with ⟨rfl, rfl⟩ | ⟨p, -, rfl, rfl⟩
  · rw [BR1_l, BR1_l]
    exact ⟨-9, σ', τ', m, rfl, rfl, hm, hS⟩
  · rw [BR1_r, BR1_r]
    exact ⟨nI p, σ', τ', m, rfl, rfl, hm, hS⟩
theorem s_fault (h : R σ τ) (a : Int32) : Sim (c_fault σ a) (m_fault τ a) Rq := by
  unfold c_fault m_fault
  rcases text_cases a with ⟨t, ht, rfl, e1, e2⟩ | ⟨e1, e2⟩
  · rw [e1, B1_some, if_neg k10, ixA_is ht (by decide), B1_some]
    rcases h.tx4 ht with ⟨g1, g2⟩ | ⟨n, g1, g2, g3, g4⟩
    · rw [askedText_n ht g2, B2_some, if_neg k0m3, B2_some, g1, if_neg kSn]
      rw [show c_found σ 1 = _ from found_is σ (f := 1) (by decide) rfl, B2_some, B2_some]
      exact ⟨_, _, rfl, rfl, rfl, h.found 1⟩
    · obtain ⟨v, σ', τ', m, k1, k2, k3, k4⟩ := read_is ht g1 g2 g3 g4
      rw [askedText_s ht g1 g3, B2_some, if_pos k0le, k2, B2_some, B2_some, g2, if_pos (kSm n), ixD_is ht (by decide) g2, B1_some, k1, B2_some, B2_some]
      exact ⟨_, _, rfl, rfl, rfl, h.scr k4.1 k4.2.1⟩
  · rw [e1, B1_some, if_pos k00, askedText_0 e2, B2_some, if_neg k0m1, B2_some]
    exact h.same _
theorem cpA_is {n0 n1 k0 k1 dp n : Nat} (h1 : n ≤ n0) (h2 : dp + n ≤ n1) (hb : n1 < 2 ^ 31) (hb0 : n0 < 2 ^ 31) : cpA n0 n1 σ k0 0 k1 (nI dp) (nI n) = some (sAr σ k1 (va_cpy (cA σ k0) (cA σ k1) 0 dp n)) := by
  unfold cpA
  rw [nI_clamp (by omega), nI_clamp (by omega), show (0 : Int32).toNatClampNeg = 0 from by decide]
  rw [if_neg]
  intro g
  rcases g with (g | g | g) | (g | g)
  · exact absurd g (by decide)
  · exact nI_pos (by omega) g
  · exact nI_pos (by omega) g
  · omega
  · omega
theorem terms_fill {q : Nat} (hq : q < 20) (h40 : cI τ 40 = nI q) : ∃ f, lq2 (m_terms_L16) τ 0 = some (sAr τ 43 f) ∧ (∀ b, b < 18 → f (18 * q + b) = cA τ 44 b) ∧ ∀ p, p < 18 * q → f p = cA τ 43 p := by
  have key : ∃ e, lq2 (m_terms_L16) τ 0 = some e ∧ ∃ f, e = sAr τ 43 f ∧ (∀ b, b < 18 → f (18 * q + b) = cA τ 44 b) ∧ ∀ p, p < 18 * q → f p = cA τ 43 p := by
    unfold lq2
    refine lp_forI 18 (fun i (r : St × Int32) => i ≤ 18 ∧ r.2 = nI i ∧ ∃ f, r.1 = sAr τ 43 f ∧ (∀ b, b < i → f (18 * q + b) = cA τ 44 b) ∧ ∀ p, p < 18 * q → f p = cA τ 43 p) _ ?_ (i := 0) ⟨by omega, nI_0.symm, cA τ 43, (sAr_self τ 43).symm, fun j hj => absurd hj (Nat.not_lt_zero j), fun p _ => rfl⟩
    rintro i ⟨τ1, x⟩ ⟨hi, hx, f, hσ, h1, h2⟩
    dsimp only at hx hσ
    subst hx hσ
    by_cases h8 : i = 18
    · subst h8
      exact Or.inr ⟨_, by show m_terms_L16 _ (nI 18) = _; unfold m_terms_L16; rw [if_pos (by decide)], f, rfl, h1, h2⟩
    · have hi8 : i < 18 := by omega
      refine Or.inl ⟨hi8, (sAr τ 43 (upd f (18 * q + i) (cA τ 44 i)), nI i + 1), ?_, by omega, nI_1 i, _, rfl, fun j hj => ?_, fun p hp => ?_⟩
      · show m_terms_L16 (sAr τ 43 f) (nI i) = _
        unfold m_terms_L16
        rw [if_neg (show ¬ (18 : Int32) ≤ nI i from nI_ge (b := 18) hi8 (by decide)), rdA_nI hi8 (by decide), B1_some, show cI (sAr τ 43 f) 40 = nI q from h40, show 18 * nI q = nI (18 * q) from pk_mul 18 q, nI_add, wrA_nI (by omega) (by decide), B1_some, sA1, cA_sAr_ne _ (by decide)]
      · by_cases g : j = i
        · subst g; rw [upd_at]
        · rw [upd_ne _ (by omega)]; exact h1 j (by omega)
      · rw [upd_ne _ (by omega)]; exact h2 p hp
  obtain ⟨e, k1, f, rfl, k2, k3⟩ := key
  exact ⟨f, k1, k2, k3⟩
theorem sys_shift {W Y V W' Y' V' : Nat → Int32} {base base' : Nat} : ∀ (m b : Nat), (∀ k, k < m → W (base + k) = W' (base' + k) ∧ Y (base + k) = Y' (base' + k) ∧ V (base + k) = V' (base' + k)) → sys W Y V base m b = sys W' Y' V' base' m b
  | 0, _, _ => rfl
  | m + 1, b, h => by
    rw [sys, sys, (h m (by omega)).1, (h m (by omega)).2.1, (h m (by omega)).2.2, sys_shift m b (fun k hk => h k (by omega))]
theorem s_terms (h : R σ τ) (a b : Int32) : Sim (c_terms σ a b) (m_terms τ a b) Rq := by
  obtain ⟨w, n, N, q, hw⟩ := h.rw
  have hq := hw.1.2.2.2.1
  have m40 : cI τ 40 = nI q := hw.1.2.2.2.2.2.2.2
  have c33 : cI σ 33 = nI q := (h.eq.I 33 40 (by decide)).trans m40
  unfold c_terms m_terms
  rcases text_cases a with ⟨t, ht, rfl, e1, e2⟩ | ⟨e1, e2⟩
  · rw [e1, e2, B1_some, B1_some, if_neg k10, if_neg k10]
    rcases day_cases b with ⟨d, hd, rfl, e3, e4⟩ | ⟨e3, e4⟩
    · rw [e3, e4, B1_some, B1_some, if_neg k10, if_neg k10, c33, m40]
      have e20 : (nI q = 20) ↔ q = 20 := nI_eq (b := 20) (by omega) (by decide)
      by_cases h20 : q = 20
      · rw [if_pos (e20.mpr h20), if_pos (e20.mpr h20)]
        exact h.same _
      · have hq20 : q < 20 := by omega
        rw [if_neg (fun g => h20 (e20.mp g)), if_neg (fun g => h20 (e20.mp g)), ixA_is ht (by decide), B1_some, rdA_nI ht (by decide), B1_some]
        rcases h.tx4 ht with ⟨g1, g2⟩ | ⟨ln, g1, g2, g3, g4⟩
        · rw [g1, if_neg kSn, g2, if_neg k90]
          exact found_meets2 h (f := 1) (by decide) rfl
        · obtain ⟨v, σ', τ', m, k1, k2, k3, k4⟩ := read_is ht g1 g2 g3 g4
          have hR' := h.scr k4.1 k4.2.1
          rw [g2, if_pos (kSm ln), g3, if_pos (nI_pos' (by omega)), ixD_is ht (by decide) g2, B1_some, k1, k2, B2_some, B2_some]
          by_cases hv : v = -9
          · rw [if_pos hv, if_pos hv]
            obtain ⟨w', n', N', q', hw'⟩ := hR'.rw
            have hqq : q' = q := by
              have x1 : cI τ' 40 = nI q' := hw'.1.2.2.2.2.2.2.2
              have x2 : cI τ' 40 = nI q := by rw [k4.2.1.1 40 (by decide)]; exact m40
              exact (nI_eq (by have := hw'.1.2.2.2.1; omega) (by omega)).mp (x1.symm.trans x2)
            subst hqq
            have t40 : cI τ' 40 = nI q' := hw'.1.2.2.2.2.2.2.2
            have s33 : cI σ' 33 = nI q' := (hR'.eq.I 33 40 (by decide)).trans t40
            have s7 : cI σ' 7 = nI m := k4.2.2.1
            have s11 : cI σ' 11 = cI τ' 5 := hR'.eq.I 11 5 (by decide)
            obtain ⟨f, l1, l2, l3⟩ := terms_fill (τ := sA (sA τ' 41 q' (cI τ' 5 / 1440)) 42 q' (nI d)) hq20 t40
            unfold m_day
            have i20 : 20 * nI q' = nI (20 * q') := pk_mul 20 q'
            have hC : (B1 (wrA 20 σ' 34 (cI σ' 33) (cI σ' 11 / 1440)) fun σ13 => B1 (wrA 20 σ13 35 (cI σ13 33) (nI d)) fun σ15 => B1 (wrA 20 σ15 36 (cI σ15 33) (cI σ15 7)) fun σ17 => B1 (cpA 20 400 σ17 8 0 37 (20 * cI σ17 33) (cI σ17 7)) fun σ19 => B1 (cpA 20 400 σ19 9 0 38 (20 * cI σ19 33) (cI σ19 7)) fun σ21 => B1 (cpA 20 400 σ21 10 0 39 (20 * cI σ21 33) (cI σ21 7)) fun σ23 => some (cI (sI σ23 33 (cI σ23 33 + 1)) 33 - 1, sI σ23 33 (cI σ23 33 + 1)))
                = some (nI q', sI (sAr (sAr (sAr (sA (sA (sA σ' 34 q' (cI τ' 5 / 1440)) 35 q' (nI d)) 36 q' (nI m)) 37 (va_cpy (cA σ' 8) (cA σ' 37) 0 (20 * q') m)) 38 (va_cpy (cA σ' 9) (cA σ' 38) 0 (20 * q') m)) 39 (va_cpy (cA σ' 10) (cA σ' 39) 0 (20 * q') m)) 33 (nI (q' + 1))) := by
              have c7 : ∀ (s : St) (k i : Nat) (v : Int32), cI (sA s k i v) 7 = cI s 7 := fun _ _ _ _ => rfl
              have c3 : ∀ (s : St) (k i : Nat) (v : Int32), cI (sA s k i v) 33 = cI s 33 := fun _ _ _ _ => rfl
              have d7 : ∀ (s : St) (k : Nat) (f : Nat → Int32), cI (sAr s k f) 7 = cI s 7 := fun _ _ _ => rfl
              have d3 : ∀ (s : St) (k : Nat) (f : Nat → Int32), cI (sAr s k f) 33 = cI s 33 := fun _ _ _ => rfl
              rw [s33, s11, wrA_nI hq20 (by decide), B1_some, c3, s33, wrA_nI hq20 (by decide), B1_some, c3, c3, c7, c7, s33, s7, wrA_nI hq20 (by decide), B1_some, c3, c3, c3, c7, c7, c7, s33, s7, i20, cpA_is k3 (by omega) (by decide) (by decide), B1_some, d3, c3, c3, c3, d7, c7, c7, c7, s33, s7, i20, cpA_is k3 (by omega) (by decide) (by decide), B1_some, d3, d3, c3, c3, c3, d7, d7, c7, c7, c7, s33, s7, i20, cpA_is k3 (by omega) (by decide) (by decide), B1_some, d3, d3, d3, c3, c3, c3, s33, nI_1, cI_sI, if_pos rfl, show nI (q' + 1) - 1 = nI q' from nI_pred q']
              rfl
            rw [hC, B1_some, t40, wrA_nI hq20 (by decide), B1_some, show cI (sA τ' 41 q' (cI τ' 5 / 1440)) 40 = nI q' from t40, wrA_nI hq20 (by decide), B1_some, l1, B1_some, show cI (sAr (sA (sA τ' 41 q' (cI τ' 5 / 1440)) 42 q' (nI d)) 43 f) 40 = nI q' from t40, nI_1, cI_sI, if_pos rfl, show nI (q' + 1) - 1 = nI q' from nI_pred q']
            have hU : Up σ' (sI (sAr (sAr (sAr (sA (sA (sA σ' 34 q' (cI τ' 5 / 1440)) 35 q' (nI d)) 36 q' (nI m)) 37 (va_cpy (cA σ' 8) (cA σ' 37) 0 (20 * q') m)) 38 (va_cpy (cA σ' 9) (cA σ' 38) 0 (20 * q') m)) 39 (va_cpy (cA σ' 10) (cA σ' 39) 0 (20 * q') m)) 33 (nI (q' + 1))) := Up.wI ((((((Up.rfl.wA (by decide)).wA (by decide)).wA (by decide)).wAr (by decide)).wAr (by decide)).wAr (by decide))
            obtain ⟨p1, p2, p3, p4, p5, p6, p7, p8, p9, p10⟩ := hw'
            refine ⟨_, _, rfl, rfl, rfl, w', n', N', q' + 1, ⟨p1.1, p1.2.1, p1.2.2.1, by omega, p1.2.2.2.2.1, p1.2.2.2.2.2.1, p1.2.2.2.2.2.2.1, rfl⟩, Req.wI (Req.xAr (Req.xAr (Req.xAr (Req.yAr (Req.xA (Req.wA (Req.wA p2 (by decide) rfl) (by decide) rfl) (by decide)) (by decide)) (by decide)) (by decide)) (by decide)) (by decide) rfl, ⟨p3.1.up (by decide) hU, p3.2.up (by decide) hU⟩, p4.up hU (Dn.wI (((Dn.rfl.wA (by decide)).wA (by decide)).wAr (by decide))), ?_, p6, p7, p8, p9, p10⟩
            intro t' ht'
            show ∃ m', m' ≤ 20 ∧ upd (cA σ' 36) q' (nI m) t' = nI m' ∧ (∀ k, k < m' → itOk (va_cpy (cA σ' 8) (cA σ' 37) 0 (20 * q') m) (va_cpy (cA σ' 9) (cA σ' 38) 0 (20 * q') m) (va_cpy (cA σ' 10) (cA σ' 39) 0 (20 * q') m) (20 * t' + k)) ∧ (∀ b, b < 18 → f (18 * t' + b) = sys (va_cpy (cA σ' 8) (cA σ' 37) 0 (20 * q') m) (va_cpy (cA σ' 9) (cA σ' 38) 0 (20 * q') m) (va_cpy (cA σ' 10) (cA σ' 39) 0 (20 * q') m) (20 * t') m' b) ∧ isN (upd (cA τ' 41) q' (cI τ' 5 / 1440) t') 69 ∧ isN (upd (cA τ' 42) q' (nI d) t') 69
            have vc : ∀ (f g : Nat → Int32) (k : Nat), k < m → va_cpy f g 0 (20 * q') m (20 * q' + k) = f (0 + k) := fun f g k hk => by
              unfold va_cpy
              rw [if_pos (by omega), show 20 * q' + k - 20 * q' = k by omega]
            have vo : ∀ (f g : Nat → Int32) (p : Nat), p < 20 * q' → va_cpy f g 0 (20 * q') m p = g p := fun f g p hp => by
              unfold va_cpy
              rw [if_neg (by omega)]
            by_cases g : t' = q'
            · subst g
              rw [upd_at, upd_at, upd_at]
              refine ⟨m, k3, rfl, fun k hk => ?_, fun b hb => ?_, ⟨w' / 1440, ?_, ?_⟩, ⟨d, by omega, rfl⟩⟩
              · unfold itOk
                rw [vc _ _ k hk, vc _ _ k hk, vc _ _ k hk]
                exact k4.2.2.2.1 k hk
              · rw [l2 b hb]
                show cA τ' 44 b = _
                rw [k4.2.2.2.2 b hb]
                exact sys_shift m b (fun k hk => ⟨(vc _ _ k hk).symm, (vc _ _ k hk).symm, (vc _ _ k hk).symm⟩)
              · have := p1.1; omega
              · rw [p1.2.2.2.2.1]
                exact pk_div (d := 1440) (by have := p1.1; omega) (by decide) (by decide)
            · rw [upd_ne _ g, upd_ne _ g, upd_ne _ g]
              obtain ⟨m', x1, x2, x3, x4, x5, x6⟩ := p5 t' (by omega)
              refine ⟨m', x1, x2, fun k hk => ?_, fun b hb => ?_, x5, x6⟩
              · unfold itOk
                rw [vo _ _ _ (by omega), vo _ _ _ (by omega), vo _ _ _ (by omega)]
                exact x3 k hk
              · rw [l3 _ (by omega)]
                show cA τ' 43 _ = _
                rw [x4 b hb]
                exact sys_shift m' b (fun k hk => ⟨(vo _ _ _ (by omega)).symm, (vo _ _ _ (by omega)).symm, (vo _ _ _ (by omega)).symm⟩)
          · rw [if_neg hv, if_neg hv]
            exact hR'.same _
    · rw [e3, e4, B1_some, B1_some, if_pos k00, if_pos k00]
      exact h.same _
  · rw [e1, e2, B1_some, B1_some, if_pos k00, if_pos k00]
    exact h.same _
end Terms
