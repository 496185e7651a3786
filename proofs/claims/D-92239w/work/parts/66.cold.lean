/-! plain law: cold, texts -/
section Cold
variable {σ σ' τ τ' : St}
theorem j_max_is (a b : Int32) : j_max a b = some (if a < b then b else a) := by
  unfold j_max
  by_cases h : a < b
  · rw [if_pos h, if_pos h, B1_some]
  · rw [if_neg h, if_neg h, B1_some]
theorem max_le (a b : Int32) : (if a < b then b else a) = (if b ≤ a then a else b) := by
  by_cases h : a < b
  · rw [if_pos h, if_neg (fun g => by rw [i32_le] at g; rw [i32_lt] at h; omega)]
  · rw [if_neg h, if_pos (Int32.not_lt.mp h)]
theorem Rtr.y28 {n : Nat} (h : Rtr (cL σ) (cA σ) (cA τ) n) {t kd : Nat} (ht : t < n) (hL : cL σ (120 + t) = some kd) (hk : kd ≠ 3) {v : Int32} : Rtr (cL σ) (cA σ) (cA (sA τ 28 t v)) n := by
  refine ⟨fun t' ht' => ?_, fun t' h1 h2 => ?_⟩
  · obtain ⟨kd', h1, h2, h3, h4, h5, h6, h7, h8⟩ := h.1 t' ht'
    refine ⟨kd', h1, h2, h3, h4, h5, h6, fun p hp ho => ?_, h8⟩
    rw [cA_sA]
    by_cases q : p.2 = 28
    · have hp1 : p.1 = 13 := by
        have : ∀ p ∈ tfm, p.2 = 28 → p.1 = 13 := by decide
        exact this p hp q
      by_cases qt : t' = t
      · subst qt
        exfalso
        rw [hL] at h2
        cases h2
        rw [hp1] at ho
        unfold okT at ho
        simp [hk] at ho
      · rw [if_pos q, upd_ne _ qt, ← q]
        exact h7 p hp ho
    · rw [if_neg q]
      exact h7 p hp ho
  · have q : t' ≠ t := by omega
    have g := h.2 t' h1 h2
    unfold Tr0 at g ⊢
    refine ⟨g.1, g.2.1, g.2.2.1, g.2.2.2.1, ?_, g.2.2.2.2.2⟩
    rw [cA_sA, if_pos rfl, upd_ne _ q]
    exact g.2.2.2.2.1
theorem cold_loops {r n t kd : Nat} (hr : r < 6) (hn : n ≤ 40) (ht : t < 12) (hL : cL σ (120 + t) = some kd) (hok : okT kd 11 = true) (f11 : cA σ (120 + t) 11 = cA τ 27 t) (g2 : cL σ (100 + r) = some n) (g3 : cA τ 6 r = nI n) (g4 : ∀ j, j < n → cA σ (100 + r) j = cA τ 7 (40 * r + j)) :
    Sim (lq5 (c_cold_L25 (nI r) t σ) 0 0 0 0 0) (lq5 (m_cold_L15 (nI t) (nI r) τ) 0 0 0 0 0) (fun p q => p.1 = q.1 ∧ p.1 + p.2.1 = q.2.1 ∧ p.2.2 = q.2.2) := by
  unfold lq5
  refine lp_sim n (fun k (p : Int32 × Int32 × Int32 × Int32 × Int32) (q : Int32 × Int32 × Int32 × Int32 × Int32) => k ≤ n ∧ p.2.2.2.2 = nI k ∧ q.2.2.2.2 = nI k ∧ p.1 = q.1 ∧ p.1 + p.2.1 = q.2.1 ∧ p.2.2.1 = q.2.2.1 ∧ p.2.2.2.1 = q.2.2.2.1) _ ?_ (i := 0) ⟨by omega, nI_0.symm, nI_0.symm, rfl, by decide, rfl, rfl⟩
  rintro k ⟨x1, x2, x3, x4, x5⟩ ⟨y1, y2, y3, y4, y5⟩ ⟨hk, hx, hy, e1, e2, e3, e4⟩
  dsimp only at hx hy e1 e2 e3 e4
  subst hx hy e1 e2 e3 e4
  have hxD := ixD_is (σ := σ) (b := 100) hr l6 g2
  by_cases hkn : k = n
  · subst hkn
    refine Or.inr ⟨(x1, x2, x4), (x1, x1 + x2, x4), ?_, ?_, rfl, rfl, rfl⟩
    · show c_cold_L25 (nI r) t σ x1 x2 x3 x4 (nI k) = _
      unfold c_cold_L25
      rw [hxD, B1_some, g2, B1_some, if_pos (Int32.le_refl _)]
    · show m_cold_L15 (nI t) (nI r) τ x1 (x1 + x2) x3 x4 (nI k) = _
      unfold m_cold_L15
      rw [rdA_nI hr (by decide), B1_some, g3, if_pos (Int32.le_refl _)]
  · have hk2 : k < n := by omega
    have hge : ¬ nI n ≤ nI k := nI_ge hk2 (by omega)
    have r7 : rdA 240 τ 7 (40 * nI r + nI k) = some (cA σ (100 + r) k) := by rw [ix40, rdA_nI (by omega) (by decide), g4 k hk2]
    have rD : rdD σ (100 + r) (nI k) = some (cA σ (100 + r) k) := rdD_nI g2 hk2 (by omega)
    have rT : rdT σ (120 + t) 11 = some (cA τ 27 t) := by rw [rdT_is hL hok, f11]
    have rl : rdA 12 τ 27 (nI t) = some (cA τ 27 t) := rdA_nI ht l12
    by_cases hg : cA σ (100 + r) k = -999
    · refine Or.inl ⟨hk2, (x1 + 0, x2 + 1, x3 + 1, (if x4 < x3 + 1 then x3 + 1 else x4), nI k + 1), (x1 + 0, x1 + x2 + 1, x3 + 1, (if x4 < x3 + 1 then x3 + 1 else x4), nI k + 1), ?_, ?_, by omega, nI_1 k, nI_1 k, rfl, ?_, rfl, rfl⟩
      · show c_cold_L25 (nI r) t σ x1 x2 x3 x4 (nI k) = _
        unfold c_cold_L25
        simp only [hxD, B1_some, g2, rD, if_neg hge, if_pos hg, if_neg k10, if_true, j_max_is]
      · show m_cold_L15 (nI t) (nI r) τ x1 (x1 + x2) x3 x4 (nI k) = _
        unfold m_cold_L15
        have hm := max_le x4 (x3 + 1)
        by_cases hc : x3 + 1 ≤ x4
        · rw [if_pos hc] at hm
          simp only [rdA_nI hr l6, B1_some, g3, r7, if_neg hge, if_pos hg, if_neg k10, if_true, if_pos hc, hm]
        · rw [if_neg hc] at hm
          simp only [rdA_nI hr l6, B1_some, g3, r7, if_neg hge, if_pos hg, if_neg k10, if_true, if_neg hc, hm]
      · show x1 + 0 + (x2 + 1) = x1 + x2 + 1
        rw [Int32.add_zero, ← Int32.add_assoc]
    · by_cases hl : cA σ (100 + r) k ≤ cA τ 27 t
      · refine Or.inl ⟨hk2, (x1 + 0, x2 + 0, 0, (if x4 < 0 then 0 else x4), nI k + 1), (x1 + 0, x1 + x2 + 0, 0, (if x4 < 0 then 0 else x4), nI k + 1), ?_, ?_, by omega, nI_1 k, nI_1 k, rfl, ?_, rfl, rfl⟩
        · show c_cold_L25 (nI r) t σ x1 x2 x3 x4 (nI k) = _
          unfold c_cold_L25
          simp only [hxD, B1_some, g2, rD, rT, if_neg hge, if_neg hg, if_pos hl, if_true, j_max_is]
        · show m_cold_L15 (nI t) (nI r) τ x1 (x1 + x2) x3 x4 (nI k) = _
          unfold m_cold_L15
          have hm := max_le x4 0
          by_cases hc : 0 ≤ x4
          · rw [if_pos hc] at hm
            simp only [rdA_nI hr l6, B1_some, g3, r7, rl, if_neg hge, if_neg hg, if_pos hl, if_true, if_pos hc, hm]
          · rw [if_neg hc] at hm
            simp only [rdA_nI hr l6, B1_some, g3, r7, rl, if_neg hge, if_neg hg, if_pos hl, if_true, if_neg hc, hm]
        · show x1 + 0 + (x2 + 0) = x1 + x2 + 0
          simp only [Int32.add_zero]
      · refine Or.inl ⟨hk2, (x1 + 1, x2 + 0, x3 + 1, (if x4 < x3 + 1 then x3 + 1 else x4), nI k + 1), (x1 + 1, x1 + x2 + 1, x3 + 1, (if x4 < x3 + 1 then x3 + 1 else x4), nI k + 1), ?_, ?_, by omega, nI_1 k, nI_1 k, rfl, ?_, rfl, rfl⟩
        · show c_cold_L25 (nI r) t σ x1 x2 x3 x4 (nI k) = _
          unfold c_cold_L25
          simp only [hxD, B1_some, g2, rD, rT, if_neg hge, if_neg hg, if_neg hl, if_true, if_neg k10, j_max_is]
        · show m_cold_L15 (nI t) (nI r) τ x1 (x1 + x2) x3 x4 (nI k) = _
          unfold m_cold_L15
          have hm := max_le x4 (x3 + 1)
          by_cases hc : x3 + 1 ≤ x4
          · rw [if_pos hc] at hm
            simp only [rdA_nI hr l6, B1_some, g3, r7, rl, if_neg hge, if_neg hg, if_neg hl, if_true, if_neg k10, if_pos hc, hm]
          · rw [if_neg hc] at hm
            simp only [rdA_nI hr l6, B1_some, g3, r7, rl, if_neg hge, if_neg hg, if_neg hl, if_true, if_neg k10, if_neg hc, hm]
        · show x1 + 1 + (x2 + 0) = x1 + x2 + 1
          rw [Int32.add_zero, Int32.add_assoc, Int32.add_comm 1 x2, Int32.add_assoc]
theorem s_cold (h : R σ τ) (a b c : Int32) : Sim (c_cold σ a b c) (m_cold τ a b c) Rq := by
  obtain ⟨w, n, N, q, hw⟩ := h.rw
  have hn := hw.1.2.1
  unfold c_cold m_cold
  rcases hw.tcase a with ⟨t, ht, rfl, e3, e4, hT⟩ | ⟨e3, e4⟩
  · obtain ⟨kd, hkd, hL, h17, -, -, -, hF, -⟩ := hT
    have ht12 : t < 12 := by omega
    rw [e3, e4, B1_some, B1_some, if_neg k10, if_neg k10]
    rcases row_cases b with ⟨r, hr, rfl, e5, e6⟩ | ⟨e5, e6⟩
    · rw [e5, e6, B1_some, B1_some, if_neg k10, if_neg k10, m_in_c]
      rcases in_cases c 0 2 with ⟨-, -, e7⟩ | ⟨-, e7⟩
      · rw [e7, B1_some, B1_some, if_neg k10, if_neg k10, ixD_is ht12 (by decide) hL, B1_some, hL, B1_some, B1_some, cold_is ht12 hkd h17, B1_some]
        unfold icT
        by_cases hc : kd = 1 ∨ kd = 3
        · have hok : okT kd 11 = true := by rcases hc with rfl | rfl <;> rfl
          have f11 := hF (11, 27) (by decide) hok
          dsimp only at f11
          rw [if_pos hc, decide_eq_true hc, b01_t, if_neg k10, if_neg k10, ixA_is hr (by decide), B1_some, rdA_nI hr (by decide), B1_some]
          rcases h.rw6 hr with ⟨g1, g2⟩ | ⟨m, g1, g2, g3, g4⟩
          · rw [g1, if_neg kSn, g2, if_neg k90]
            exact found_meets2 h (f := 1) (by decide) rfl
          · have hck : ckC σ (120 + t) = some kd := by
              unfold ckC
              rw [hL]
              show (if kd = 1 ∨ kd = 3 then some kd else none) = _
              rw [if_pos hc]
            rw [g2, if_pos (kSm m), g3, if_pos (nI_pos' (by omega)), hck, B1_some, rdA_nI ht12 (by decide), B1_some, wrA_nI ht12 (by decide), B1_some]
            -- the state behind the look
            have hlk : ∃ σ1, lkT σ (120 + t) = some σ1 ∧ R σ1 (sA τ 28 t (cA τ 28 t + 1)) ∧ cL σ1 (120 + t) = some kd ∧ cA σ1 (120 + t) 11 = cA τ 27 t ∧ cL σ1 (100 + r) = some m ∧ ∀ j, j < m → cA σ1 (100 + r) j = cA τ 7 (40 * r + j) := by
              rcases hc with rfl | rfl
              · refine ⟨σ, by unfold lkT; rw [hL]; rfl, ?_, hL, f11, g2, g4⟩
                exact hw.mk3 (w' := w) (n' := n) (N' := N) Mid.rfl (MidM.rfl.wA (by decide)) (Req.yA h.eq (by decide)) hw.1 (hw.2.2.2.1.y28 ht hL (by decide)) hw.2.2.2.2.2.2.1 hw.2.2.2.2.2.2.2.1 hw.2.2.2.2.2.2.2.2.1
              · have f13 := hF (13, 28) (by decide) rfl
                dsimp only at f13
                refine ⟨sA σ (120 + t) 13 (cA σ (120 + t) 13 + 1), by unfold lkT; rw [hL]; rfl, ?_, hL, ?_, g2, fun j hj => ?_⟩
                · rw [f13]
                  exact hw.mk3 (w' := w) (n' := n) (N' := N) (Mid.rfl.wA (by omega)) (MidM.rfl.wA (by decide)) (Req.yA (Req.xA h.eq (eqA_hi (by omega))) (by decide)) hw.1 (hw.2.2.2.1.wT hn ht (f := 13) (m := 28) (by decide)) hw.2.2.2.2.2.2.1 hw.2.2.2.2.2.2.2.1 hw.2.2.2.2.2.2.2.2.1
                · rw [cA_sA, if_pos rfl, upd_ne _ (by decide)]; exact f11
                · rw [cA_sA, if_neg (by omega)]; exact g4 j hj
            obtain ⟨σ1, k1, k2, k3, k4, k5, k6⟩ := hlk
            obtain ⟨⟨x1, x2, x3⟩, ⟨y1, y2, y3⟩, l1, l2, l3, l4, l5⟩ := cold_loops (σ := σ1) (τ := sA τ 28 t (cA τ 28 t + 1)) hr g1 ht12 k3 hok k4 k5 g3 k6
            dsimp only at l3 l4 l5
            subst l3 l4 l5
            rw [k1, B1_some, l1, l2, B3_some, B3_some]
            by_cases h0 : c = 0
            · simp only [if_pos h0, B1_some]; exact ⟨_, _, rfl, rfl, rfl, k2⟩
            · simp only [if_neg h0]
              by_cases h1 : c = 1
              · simp only [if_pos h1, B1_some]; exact ⟨_, _, rfl, rfl, rfl, k2⟩
              · simp only [if_neg h1, B1_some]; exact ⟨_, _, rfl, rfl, rfl, k2⟩
        · rw [if_neg hc, decide_eq_false hc, b01_f, if_pos k00, if_pos k00]
          exact found_meets2 h (f := 3) (by decide) rfl
      · rw [e7, B1_some, B1_some, if_pos k00, if_pos k00]
        exact h.same _
    · rw [e5, e6, B1_some, B1_some, if_pos k00, if_pos k00]
      exact h.same _
  · rw [e3, e4, B1_some, B1_some, if_pos k00, if_pos k00]
    exact h.same _
/-! texts -/
theorem isText_1 {r : Nat} (hr : r < 4) : m_isText (nI r) = some 1 := wrap_is (c_in_t (nI_pos (by omega)) (fun g => by
  have := (nI_ltI (a := 3) (b := r) (by decide) (by omega)).mp g
  omega))
theorem askedText_n {r : Nat} (hr : r < 4) (h6 : cA τ 9 r = -9) : m_askedText τ (nI r) = some (-3, sA (sI τ 0 1) 1 1 (cA τ 1 1 + 1)) := by
  unfold m_askedText
  rw [isText_1 hr, B1_some, if_neg k10, rdA_nI hr (by decide), B1_some, h6, if_neg k90, show m_meets τ 1 = _ from meets_is τ (f := 1) (by decide) rfl, B2_some, B2_some]
theorem askedText_s {r n : Nat} (hr : r < 4) (hn : n ≤ 40) (h6 : cA τ 9 r = nI n) : m_askedText τ (nI r) = some (0, τ) := by
  unfold m_askedText
  rw [isText_1 hr, B1_some, if_neg k10, rdA_nI hr (by decide), B1_some, h6, if_pos (nI_pos' (by omega)), B2_some]
theorem askedText_0 {a : Int32} (e : m_isText a = some 0) : m_askedText τ a = some (-1, τ) := by
  unfold m_askedText
  rw [e, B1_some, if_pos k00, B2_some]
theorem text_fill {r : Nat} (hr : r < 4) : ∃ f, lq2 (m_text_L5 (nI r)) τ 0 = some (sAr τ 10 f) ∧ (∀ j, j < 40 → f (40 * r + j) = 32) ∧ ∀ p, (p < 40 * r ∨ 40 * r + 40 ≤ p) → f p = cA τ 10 p := by
  have key : ∃ e, lq2 (m_text_L5 (nI r)) τ 0 = some e ∧ ∃ f, e = sAr τ 10 f ∧ (∀ j, j < 40 → f (40 * r + j) = 32) ∧ ∀ p, (p < 40 * r ∨ 40 * r + 40 ≤ p) → f p = cA τ 10 p := by
    unfold lq2
    refine lp_forI 40 (fun i (q : St × Int32) => i ≤ 40 ∧ q.2 = nI i ∧ ∃ f, q.1 = sAr τ 10 f ∧ (∀ j, j < i → f (40 * r + j) = 32) ∧ ∀ p, (p < 40 * r ∨ 40 * r + 40 ≤ p) → f p = cA τ 10 p) _ ?_ (i := 0) ⟨by omega, nI_0.symm, cA τ 10, (sAr_self τ 10).symm, fun j hj => absurd hj (Nat.not_lt_zero j), fun p _ => rfl⟩
    rintro i ⟨τ1, x⟩ ⟨hi, hx, f, hσ, h1, h2⟩
    dsimp only at hx hσ
    subst hx hσ
    by_cases h8 : i = 40
    · subst h8
      exact Or.inr ⟨_, by show m_text_L5 (nI r) _ (nI 40) = _; unfold m_text_L5; rw [if_pos (by decide)], f, rfl, h1, h2⟩
    · have hi8 : i < 40 := by omega
      refine Or.inl ⟨hi8, (sAr τ 10 (upd f (40 * r + i) 32), nI i + 1), ?_, by omega, nI_1 i, upd f (40 * r + i) 32, rfl, fun j hj => ?_, fun p hp => ?_⟩
      · show m_text_L5 (nI r) (sAr τ 10 f) (nI i) = _
        unfold m_text_L5
        rw [if_neg (show ¬ (40 : Int32) ≤ nI i from nI_ge (b := 40) hi8 (by decide)), ix40, wrA_nI (by omega) (by decide), B1_some, sA1]
      · by_cases q : j = i
        · subst q; rw [upd_at]
        · rw [upd_ne _ (by omega)]; exact h1 j (by omega)
      · rw [upd_ne _ (by omega)]; exact h2 p hp
  obtain ⟨e, k1, f, rfl, k2, k3⟩ := key
  exact ⟨f, k1, k2, k3⟩
theorem s_text (h : R σ τ) (a b : Int32) : Sim (c_text σ a b) (m_text τ a b) Rq := by
  unfold c_text m_text
  rcases text_cases a with ⟨r, hr, rfl, e1, e2⟩ | ⟨e1, e2⟩
  · rw [e1, e2, B1_some, B1_some, if_neg k10, if_neg k10]
    by_cases h40 : b ≤ 40
    · rw [if_pos h40, if_pos h40, ixA_is hr (by decide), B1_some]
      by_cases h0 : b < 0
      · have n0 : ¬ (0 : Int32) ≤ b := fun g => by rw [i32_le] at g; rw [i32_lt] at h0; omega
        rw [if_pos h0, if_neg n0]
        exact found_meets1 h (f := 5) (by decide) rfl
      · obtain ⟨n, hn, rfl⟩ := nI_of2 (M := 40) (n := 40) (by decide) h0 h40
        obtain ⟨f, k1, k2, k3⟩ := text_fill (τ := sA τ 9 r (nI n)) hr
        rw [if_neg h0, if_pos (nI_pos' (by omega)), wrA_nI hr (by decide), B1_some, k1, B1_some, nI_clamp (by omega)]
        obtain ⟨w, nn, N, q, h1, h2, h3, -⟩ := id h
        have L1 : ∀ k, k ≠ 110 + r → k ≠ 119 → cL (movD (newT σ n) 119 (110 + r)) k = cL σ k := fun k g1 g2 => by
          unfold movD newT
          simp only [cL_sL, cL_sAr, if_neg g1, if_neg g2]
        have A1 : ∀ k, k ≠ 110 + r → k ≠ 119 → cA (movD (newT σ n) 119 (110 + r)) k = cA σ k := fun k g1 g2 => by
          unfold movD newT
          simp only [cA_sL, cA_sAr, if_neg g1, if_neg g2]
        refine ⟨_, _, rfl, rfl, rfl, h.rset (τ' := sAr (sA τ 9 r (nI n)) 10 f) (Req.xL (Req.xL (Req.xAr (Req.xL (Req.xAr (Req.yAr (Req.yA h.eq (by decide)) (by decide)) (eqA_hi (by decide)))) (eqA_hi (by omega))))) (fun k hk => rfl) (fun k hk => A1 k (by omega) (by omega)) (fun k hk => ⟨L1 k (by omega) (by omega), A1 k (by omega) (by omega)⟩) (fun k hk => ?_) ?_ ?_⟩
        · rw [cA_sAr, if_neg (by omega), cA_sA, if_neg (by omega)]
        · exact h3.1.to (fun k hk => L1 _ (by omega) (by omega)) (fun k hk => A1 _ (by omega) (by omega))
        · refine h3.2.one (k := r) (fun i hi q => L1 _ (by omega) (by omega)) (fun i hi q => A1 _ (by omega) (by omega)) (fun i hi q => upd_ne _ q _) (fun i hi q j hj => ?_) (Or.inr ⟨n, hn, ?_, upd_at _ _ _, fun j hj => ?_⟩)
          · show f (40 * i + j) = _
            exact k3 _ (by omega)
          · unfold movD newT
            rw [cL_sL, if_neg (by omega), cL_sL, if_pos rfl, cL_sL, if_pos rfl]
          · show _ = f (40 * r + j)
            rw [k2 j (by omega)]
            unfold movD newT
            rw [cA_sL, cA_sL, cA_sAr, if_pos rfl, cA_sL, cA_sAr, if_pos rfl]
            unfold spc
            rw [if_pos hj]
    · rw [if_neg h40, if_neg h40]
      exact h.same _
  · rw [e1, e2, B1_some, B1_some, if_pos k00, if_pos k00]
    exact h.same _
theorem nar_b (c : Int32) : vp_nar .byte (c.toInt8.toInt32) = c.toInt8.toInt32 := by
  show (c.toInt8.toInt32).toInt8.toInt32 = c.toInt8.toInt32
  have h := lg_i2b_range c
  exact lg_i2b_small h.1 h.2
theorem s_put (h : R σ τ) (a b c : Int32) : Sim (c_put σ a b c) (m_put τ a b c) Rq := by
  unfold c_put m_put
  rcases text_cases a with ⟨r, hr, rfl, e1, e2⟩ | ⟨e1, e2⟩
  · rw [e1, B1_some, if_neg k10, ixA_is hr (by decide), B1_some]
    unfold tryD
    rcases h.tx4 hr with ⟨g1, g2⟩ | ⟨n, g1, g2, g3, g4⟩
    · rw [askedText_n hr g2, B2_some, if_neg k0m3, g1, if_neg kSn]
      rw [show c_found σ 1 = _ from found_is σ (f := 1) (by decide) rfl]
      exact ⟨_, _, rfl, rfl, rfl, h.found 1⟩
    · rw [askedText_s hr g1 g3, B2_some, if_pos k0le, g2, if_pos (kSm n), B1_some, if_neg (by omega), rdA_nI hr (by decide), B1_some, g3, m_in_c, nar_b]
      generalize c.toInt8.toInt32 = v
      rcases cnt_cases b (nI n) rfl (by omega) with ⟨j, hj, rfl, e3⟩ | ⟨hno, e3⟩
      · have hin : ¬ (nI j < 0 ∨ n ≤ (nI j).toNatClampNeg) := nI_in hj (by omega)
        rw [e3, B1_some, if_neg k10, if_neg hin, rdD_nI g2 hj (by omega), B1_some, wrD_nI g2 hj (by omega), B1_some, ix40, rdA_nI (by omega) (by decide), B1_some, wrA_nI (by omega) (by decide), B1_some, g4 j hj, Int32.add_comm 1000]
        obtain ⟨w, nn, N, q, h1, h2, h3, -⟩ := id h
        refine ⟨_, _, rfl, rfl, rfl, h.rset (Req.yA (Req.xA h.eq (eqA_hi (by omega))) (by decide)) (fun k hk => rfl) (fun k hk => ?_) (fun k hk => ⟨rfl, ?_⟩) (fun k hk => ?_) ?_ ?_⟩
        · rw [cA_sA, if_neg (by omega)]
        · rw [cA_sA, if_neg (by omega)]
        · rw [cA_sA, if_neg (by omega)]
        · refine h3.1.to (fun k hk => rfl) (fun k hk => ?_)
          rw [cA_sA, if_neg (by omega)]
        · refine h3.2.one (k := r) (fun i hi q => rfl) (fun i hi q => ?_) (fun i hi q => rfl) (fun i hi q j' hj' => ?_) (Or.inr ⟨n, g1, g2, g3, fun j' hj' => ?_⟩)
          · rw [cA_sA, if_neg (by omega)]
          · show upd (cA τ 10) (40 * r + j) v (40 * i + j') = _
            rw [upd_ne _ (by omega)]
          · show _ = upd (cA τ 10) (40 * r + j) v (40 * r + j')
            rw [cA_sA, if_pos rfl]
            by_cases q2 : j' = j
            · subst q2; rw [upd_at, upd_at]
            · rw [upd_ne _ q2, upd_ne _ (by omega)]; exact g4 j' hj'
      · have hin : b < 0 ∨ n ≤ b.toNatClampNeg := by
          by_cases q : b < 0
          · exact Or.inl q
          · obtain ⟨j, hj, rfl⟩ := nI_of q
            refine Or.inr ?_
            rw [nI_clamp hj]
            exact Nat.le_of_not_lt (fun g => hno j g rfl)
        rw [e3, B1_some, if_pos k00, if_pos hin]
        exact fnd2 h
  · rw [e1, B1_some, if_pos k00, askedText_0 e2, B2_some, if_neg k0m1]
    exact h.same _
end Cold
