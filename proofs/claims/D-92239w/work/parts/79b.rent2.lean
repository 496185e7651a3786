/-! plain law: rent, tables and the way back -/
section Rent2
variable {σ σ' τ τ' : St}
def sBr (σ : St) (g : Nat → Int64) : St := (σ.1, σ.2.1, σ.2.2.1, va_up σ.2.2.2.1 71 g, σ.2.2.2.2)
theorem sBr_self (σ : St) : sBr σ (cB σ 71) = σ := by
  unfold sBr cB
  have e : va_up σ.2.2.2.1 71 (σ.2.2.2.1 71) = σ.2.2.2.1 := by
    funext i
    unfold va_up
    by_cases h1 : i = 71 <;> simp [h1]
  simp only [e]
theorem cB_sBr (σ : St) (g : Nat → Int64) : cB (sBr σ g) 71 = g := rfl
theorem sB_sBr (σ : St) (g : Nat → Int64) (i : Nat) (v : Int64) : sB (sBr σ g) 71 i v = sBr σ (vp_updL g i v) := by
  unfold sB
  rw [cB_sBr]
  unfold sBr
  have e : va_up (va_up σ.2.2.2.1 71 g) 71 (vp_updL g i v) = va_up σ.2.2.2.1 71 (vp_updL g i v) := by
    funext j
    unfold va_up
    by_cases h : j = 71 <;> simp [h]
  simp only [e]
theorem updL_at (f : Nat → Int64) (i : Nat) (v : Int64) : vp_updL f i v i = v := by unfold vp_updL; rw [if_pos rfl]
theorem updL_ne (f : Nat → Int64) {i j : Nat} (h : j ≠ i) (v : Int64) : vp_updL f i v j = f j := by unfold vp_updL; rw [if_neg h]
theorem sA_sAr (σ : St) (k i : Nat) (f : Nat → Int32) (v : Int32) : sA (sAr σ k f) k i v = sAr σ k (upd f i v) := by
  rw [sA_eq, cA_sAr_at, sAr_sAr]
/-- the last row of the table -/
theorem rent_28 {n : Nat} (hn : n ≤ 40) : ∃ f, lq2 (c_rent_L28 n) σ 0 = some (sAr σ 60 f) ∧ ∀ x, x < 10 → f (10 * n + x) = nI 0 := by
  have key : ∃ e, lq2 (c_rent_L28 n) σ 0 = some e ∧ ∃ f, e = sAr σ 60 f ∧ ∀ x, x < 10 → f (10 * n + x) = nI 0 := by
    unfold lq2
    refine lp_forI 10 (fun j (p : St × Int32) => j ≤ 10 ∧ p.2 = nI j ∧ ∃ f, p.1 = sAr σ 60 f ∧ ∀ x, x < j → f (10 * n + x) = nI 0) _ ?_ (i := 0) ⟨by omega, nI_0.symm, _, (sAr_self σ 60).symm, fun x hx => absurd hx (Nat.not_lt_zero x)⟩
    rintro j ⟨s, z⟩ ⟨hj, hz, f, hs, hf⟩
    dsimp only at hz hs
    subst hz hs
    by_cases h10 : j = 10
    · subst h10
      exact Or.inr ⟨_, by show c_rent_L28 n _ (nI 10) = _; unfold c_rent_L28; rw [if_pos (by decide)], f, rfl, hf⟩
    · have hj2 : j < 10 := by omega
      refine Or.inl ⟨hj2, (sAr σ 60 (upd f (10 * n + j) 0), nI j + 1), ?_, by omega, nI_1 j, _, rfl, fun x hx => ?_⟩
      · show c_rent_L28 n _ (nI j) = _
        unfold c_rent_L28
        rw [if_neg (show ¬ (10 : Int32) ≤ nI j from nI_ge (b := 10) hj2 (by decide)), ix10, wrA_nI (by omega) (by decide), B1_some, sA_sAr]
      · by_cases q : x = j
        · rw [q, upd_at]; rfl
        · rw [upd_ne _ (by omega)]; exact hf x (by omega)
  obtain ⟨e, k1, f, rfl, k2⟩ := key
  exact ⟨f, k1, k2⟩
theorem rent_25 {n : Nat} (hn : n ≤ 40) : ∃ g, lq2 (m_rent_L25 (nI n)) τ 0 = some (sBr τ g) ∧ ∀ x, x < 10 → g (10 * n + x) = nL 0 := by
  have key : ∃ e, lq2 (m_rent_L25 (nI n)) τ 0 = some e ∧ ∃ g, e = sBr τ g ∧ ∀ x, x < 10 → g (10 * n + x) = nL 0 := by
    unfold lq2
    refine lp_forI 10 (fun j (p : St × Int32) => j ≤ 10 ∧ p.2 = nI j ∧ ∃ g, p.1 = sBr τ g ∧ ∀ x, x < j → g (10 * n + x) = nL 0) _ ?_ (i := 0) ⟨by omega, nI_0.symm, _, (sBr_self τ).symm, fun x hx => absurd hx (Nat.not_lt_zero x)⟩
    rintro j ⟨s, z⟩ ⟨hj, hz, g, hs, hf⟩
    dsimp only at hz hs
    subst hz hs
    by_cases h10 : j = 10
    · subst h10
      exact Or.inr ⟨_, by show m_rent_L25 _ _ (nI 10) = _; unfold m_rent_L25; rw [if_pos (by decide)], g, rfl, hf⟩
    · have hj2 : j < 10 := by omega
      refine Or.inl ⟨hj2, (sBr τ (vp_updL g (10 * n + j) 0), nI j + 1), ?_, by omega, nI_1 j, _, rfl, fun x hx => ?_⟩
      · show m_rent_L25 _ _ (nI j) = _
        unfold m_rent_L25
        rw [if_neg (show ¬ (10 : Int32) ≤ nI j from nI_ge (b := 10) hj2 (by decide)), ix10, wrB_nI (by omega) (by decide), B1_some, sB_sBr]
      · by_cases q : x = j
        · rw [q, updL_at]; rfl
        · rw [updL_ne _ (by omega)]; exact hf x (by omega)
  obtain ⟨e, k1, g, rfl, k2⟩ := key
  exact ⟨g, k1, k2⟩
variable {own fee ftc lck rr n : Nat} {r : Nat → Nat}
/-- what the table holds behind day n - K -/
def tbC (own fee ftc lck : Nat) (r : Nat → Nat) (n K : Nat) (f : Nat → Int32) : Prop := ∀ k, k ≤ K → ∀ x, x < 10 → f (10 * (n - k) + x) = nI (vv (fun i => cst own fee ftc lck (r i)) n k x)
def tbM (own fee ftc lck : Nat) (r : Nat → Nat) (n K : Nat) (g : Nat → Int64) : Prop := ∀ k, k ≤ K → ∀ x, x < 10 → g (10 * (n - k) + x) = nL (vv (fun i => cst own fee ftc lck (r i)) n k x)
theorem vv_2M (h1 : fee ≤ 1000) (h2 : ftc ≤ 1000) (h3 : lck ≤ 1000) (hn : n ≤ 40) (hr : ∀ i, i < n → r i < 10) {k x : Nat} (hk : k ≤ n) : vv (fun i => cst own fee ftc lck (r i)) n k x ≤ 2000000 := by
  have := vv_le (P := fun i => cst own fee ftc lck (r i)) (n := n) (fun i y x hi hy => cst_le h1 h2 h3 (hr i hi) hy) k x hk
  have h4 : k * 27000 ≤ 40 * 27000 := Nat.mul_le_mul_right _ (by omega)
  omega
theorem rent_38 (h1 : fee ≤ 1000) (h2 : ftc ≤ 1000) (h3 : lck ≤ 1000) (ho : own < 10) (hn : n ≤ 40) (hL : cL σ (100 + rr) = some n) (hr : ∀ i, i < n → r i < 10 ∧ cA σ (100 + rr) i = nI (r i)) {K : Nat} (hK : K < n) {f : Nat → Int32} (hf : tbC own fee ftc lck r n K f) : ∃ f', lq2 (c_rent_L38 (nI own) (nI fee) (nI ftc) (nI lck) rr (nI (n - (K + 1)))) (sAr σ 60 f) 0 = some (sAr σ 60 f') ∧ tbC own fee ftc lck r n (K + 1) f' := by
  have key : ∃ e, lq2 (c_rent_L38 (nI own) (nI fee) (nI ftc) (nI lck) rr (nI (n - (K + 1)))) (sAr σ 60 f) 0 = some e ∧ ∃ f', e = sAr σ 60 f' ∧ tbC own fee ftc lck r n (K + 1) f' := by
    unfold lq2
    refine lp_forI 10 (fun j (p : St × Int32) => j ≤ 10 ∧ p.2 = nI j ∧ ∃ f', p.1 = sAr σ 60 f' ∧ tbC own fee ftc lck r n K f' ∧ ∀ x, x < j → f' (10 * (n - (K + 1)) + x) = nI (vv (fun i => cst own fee ftc lck (r i)) n (K + 1) x)) _ ?_ (i := 0) ⟨by omega, nI_0.symm, f, rfl, hf, fun x hx => absurd hx (Nat.not_lt_zero x)⟩
    rintro j ⟨s, z⟩ ⟨hj, hz, f', hs, hf', hd⟩
    dsimp only at hz hs
    subst hz hs
    by_cases h10 : j = 10
    · subst h10
      refine Or.inr ⟨_, by show c_rent_L38 _ _ _ _ _ _ _ (nI 10) = _; unfold c_rent_L38; rw [if_pos (by decide)], f', rfl, fun k hk x hx => ?_⟩
      by_cases q : k = K + 1
      · rw [q]; exact hd x hx
      · exact hf' k (by omega) x hx
    · have hj2 : j < 10 := by omega
      refine Or.inl ⟨hj2, (sAr σ 60 (upd f' (10 * (n - (K + 1)) + j) (nI (vv (fun i => cst own fee ftc lck (r i)) n (K + 1) j))), nI j + 1), ?_, by omega, nI_1 j, _, rfl, fun k hk x hx => ?_, fun x hx => ?_⟩
      · show c_rent_L38 _ _ _ _ _ _ _ (nI j) = _
        have hm := rent_42 (σ := sAr σ 60 f') (own := own) (i := n - (K + 1)) (y := 0) (x := j) (rr := rr) (V := fun y => vv (fun i => cst own fee ftc lck (r i)) n K y) h1 h2 h3 ho (hr (n - (K + 1)) (by omega)).1 hj2 (by omega) hn hL (by rw [cA_sAr_ne _ (by omega)]; exact (hr (n - (K + 1)) (by omega)).2) (fun y hy => ⟨by
          rw [cA_sAr_at, show n - (K + 1) + 1 = n - K by omega]
          exact hf' K (Nat.le_refl _) y hy, vv_2M h1 h2 h3 hn (fun i hi => (hr i hi).1) (by omega)⟩)
        unfold c_rent_L38
        rw [if_neg (show ¬ (10 : Int32) ≤ nI j from nI_ge (b := 10) hj2 (by decide)), hm, B1_some, ix10, wrA_nI (by omega) (by decide), B1_some, sA_sAr]
        rfl
      · rw [upd_ne _ (by omega)]
        exact hf' k hk x hx
      · by_cases q : x = j
        · rw [q, upd_at]
        · rw [upd_ne _ (by omega)]; exact hd x (by omega)
  obtain ⟨e, k1, f', rfl, k2⟩ := key
  exact ⟨f', k1, k2⟩
theorem rent_35 (h1 : fee ≤ 1000) (h2 : ftc ≤ 1000) (h3 : lck ≤ 1000) (ho : own < 10) (hn : n ≤ 40) (hrr : rr < 6) (hr : ∀ i, i < n → r i < 10 ∧ cA τ 7 (40 * rr + i) = nI (r i)) {K : Nat} (hK : K < n) {g : Nat → Int64} (hf : tbM own fee ftc lck r n K g) : ∃ g', lq2 (m_rent_L35 (nI rr) (nI own) (nI fee) (nI ftc) (nI lck) (nI (n - (K + 1)))) (sBr τ g) 0 = some (sBr τ g') ∧ tbM own fee ftc lck r n (K + 1) g' := by
  have key : ∃ e, lq2 (m_rent_L35 (nI rr) (nI own) (nI fee) (nI ftc) (nI lck) (nI (n - (K + 1)))) (sBr τ g) 0 = some e ∧ ∃ g', e = sBr τ g' ∧ tbM own fee ftc lck r n (K + 1) g' := by
    unfold lq2
    refine lp_forI 10 (fun j (p : St × Int32) => j ≤ 10 ∧ p.2 = nI j ∧ ∃ g', p.1 = sBr τ g' ∧ tbM own fee ftc lck r n K g' ∧ ∀ x, x < j → g' (10 * (n - (K + 1)) + x) = nL (vv (fun i => cst own fee ftc lck (r i)) n (K + 1) x)) _ ?_ (i := 0) ⟨by omega, nI_0.symm, g, rfl, hf, fun x hx => absurd hx (Nat.not_lt_zero x)⟩
    rintro j ⟨s, z⟩ ⟨hj, hz, g', hs, hf', hd⟩
    dsimp only at hz hs
    subst hz hs
    by_cases h10 : j = 10
    · subst h10
      refine Or.inr ⟨_, by show m_rent_L35 _ _ _ _ _ _ _ (nI 10) = _; unfold m_rent_L35; rw [if_pos (by decide)], g', rfl, fun k hk x hx => ?_⟩
      by_cases q : k = K + 1
      · rw [q]; exact hd x hx
      · exact hf' k (by omega) x hx
    · have hj2 : j < 10 := by omega
      refine Or.inl ⟨hj2, (sBr τ (vp_updL g' (10 * (n - (K + 1)) + j) (nL (vv (fun i => cst own fee ftc lck (r i)) n (K + 1) j))), nI j + 1), ?_, by omega, nI_1 j, _, rfl, fun k hk x hx => ?_, fun x hx => ?_⟩
      · show m_rent_L35 _ _ _ _ _ _ _ (nI j) = _
        have hm := rent_39 (τ := sBr τ g') (own := own) (i := n - (K + 1)) (x := j) (rr := rr) (V := fun y => vv (fun i => cst own fee ftc lck (r i)) n K y) h1 h2 h3 ho (hr (n - (K + 1)) (by omega)).1 hj2 (by omega) hn hrr (hr (n - (K + 1)) (by omega)).2 (fun y hy => ⟨by
          rw [cB_sBr, show n - (K + 1) + 1 = n - K by omega]
          exact hf' K (Nat.le_refl _) y hy, vv_2M h1 h2 h3 hn (fun i hi => (hr i hi).1) (by omega)⟩)
        unfold m_rent_L35
        rw [if_neg (show ¬ (10 : Int32) ≤ nI j from nI_ge (b := 10) hj2 (by decide)), hm, B1_some, ix10, wrB_nI (by omega) (by decide), B1_some, sB_sBr]
        rfl
      · rw [updL_ne _ (by omega)]
        exact hf' k hk x hx
      · by_cases q : x = j
        · rw [q, updL_at]
        · rw [updL_ne _ (by omega)]; exact hd x (by omega)
  obtain ⟨e, k1, g', rfl, k2⟩ := key
  exact ⟨g', k1, k2⟩
theorem m1_lt : nI 0 - 1 < 0 := by decide
theorem pd_2 (m : Nat) : nI (m + 1) - 1 + -1 = nI m - 1 := by
  rw [pd_s, ← Int32.sub_eq_add_neg]
theorem rent_34 (h1 : fee ≤ 1000) (h2 : ftc ≤ 1000) (h3 : lck ≤ 1000) (ho : own < 10) (hn : n ≤ 40) (hL : cL σ (100 + rr) = some n) (hr : ∀ i, i < n → r i < 10 ∧ cA σ (100 + rr) i = nI (r i)) {f : Nat → Int32} (hf : tbC own fee ftc lck r n 0 f) : ∃ f', lq2 (c_rent_L34 (nI own) (nI fee) (nI ftc) (nI lck) rr) (sAr σ 60 f) (nI n - 1) = some (sAr σ 60 f') ∧ tbC own fee ftc lck r n n f' := by
  have key : ∃ e, lq2 (c_rent_L34 (nI own) (nI fee) (nI ftc) (nI lck) rr) (sAr σ 60 f) (nI n - 1) = some e ∧ ∃ f', e = sAr σ 60 f' ∧ tbC own fee ftc lck r n n f' := by
    unfold lq2
    refine lp_forI n (fun K (p : St × Int32) => K ≤ n ∧ p.2 = nI (n - K) - 1 ∧ ∃ f', p.1 = sAr σ 60 f' ∧ tbC own fee ftc lck r n K f') _ ?_ (i := 0) ⟨by omega, rfl, f, rfl, hf⟩
    rintro K ⟨s, z⟩ ⟨hK, hz, f', hs, hf'⟩
    dsimp only at hz hs
    subst hz hs
    by_cases h0 : K = n
    · subst h0
      refine Or.inr ⟨_, ?_, f', rfl, hf'⟩
      show c_rent_L34 _ _ _ _ _ _ (nI (K - K) - 1) = _
      unfold c_rent_L34
      rw [Nat.sub_self, if_pos m1_lt]
    · obtain ⟨f2, g1, g2⟩ := rent_38 (σ := σ) h1 h2 h3 ho hn hL hr (show K < n by omega) hf'
      refine Or.inl ⟨by omega, (sAr σ 60 f2, nI (n - K) - 1 + -1), ?_, by omega, ?_, f2, rfl, g2⟩
      · show c_rent_L34 _ _ _ _ _ _ (nI (n - K) - 1) = _
        unfold c_rent_L34
        rw [show n - K = (n - (K + 1)) + 1 by omega, pd_s, if_neg (nI_pos (by omega)), g1, B1_some]
      · dsimp only
        rw [show n - K = (n - (K + 1)) + 1 by omega, pd_2]
  obtain ⟨e, k1, f', rfl, k2⟩ := key
  exact ⟨f', k1, k2⟩
theorem rent_31 (h1 : fee ≤ 1000) (h2 : ftc ≤ 1000) (h3 : lck ≤ 1000) (ho : own < 10) (hn : n ≤ 40) (hrr : rr < 6) (hr : ∀ i, i < n → r i < 10 ∧ cA τ 7 (40 * rr + i) = nI (r i)) {g : Nat → Int64} (hf : tbM own fee ftc lck r n 0 g) : ∃ g', lq2 (m_rent_L31 (nI rr) (nI own) (nI fee) (nI ftc) (nI lck)) (sBr τ g) (nI n - 1) = some (sBr τ g') ∧ tbM own fee ftc lck r n n g' := by
  have key : ∃ e, lq2 (m_rent_L31 (nI rr) (nI own) (nI fee) (nI ftc) (nI lck)) (sBr τ g) (nI n - 1) = some e ∧ ∃ g', e = sBr τ g' ∧ tbM own fee ftc lck r n n g' := by
    unfold lq2
    refine lp_forI n (fun K (p : St × Int32) => K ≤ n ∧ p.2 = nI (n - K) - 1 ∧ ∃ g', p.1 = sBr τ g' ∧ tbM own fee ftc lck r n K g') _ ?_ (i := 0) ⟨by omega, rfl, g, rfl, hf⟩
    rintro K ⟨s, z⟩ ⟨hK, hz, g', hs, hf'⟩
    dsimp only at hz hs
    subst hz hs
    by_cases h0 : K = n
    · subst h0
      refine Or.inr ⟨_, ?_, g', rfl, hf'⟩
      show m_rent_L31 _ _ _ _ _ _ (nI (K - K) - 1) = _
      unfold m_rent_L31
      rw [Nat.sub_self, if_pos m1_lt]
    · obtain ⟨g2, q1, q2⟩ := rent_35 (τ := τ) h1 h2 h3 ho hn hrr hr (show K < n by omega) hf'
      refine Or.inl ⟨by omega, (sBr τ g2, nI (n - K) - 1 + -1), ?_, by omega, ?_, g2, rfl, q2⟩
      · show m_rent_L31 _ _ _ _ _ _ (nI (n - K) - 1) = _
        unfold m_rent_L31
        rw [show n - K = (n - (K + 1)) + 1 by omega, pd_s, if_neg (nI_pos (by omega)), q1, B1_some]
      · dsimp only
        rw [show n - K = (n - (K + 1)) + 1 by omega, pd_2]
  obtain ⟨e, k1, g', rfl, k2⟩ := key
  exact ⟨g', k1, k2⟩
/-- both pick the same -/
theorem rent_pick (h1 : fee ≤ 1000) (h2 : ftc ≤ 1000) (h3 : lck ≤ 1000) (ho : own < 10) (hn : n ≤ 40) (hrr : rr < 6) (hL : cL σ (100 + rr) = some n) (hr : ∀ i, i < n → r i < 10 ∧ cA σ (100 + rr) i = nI (r i) ∧ cA τ 7 (40 * rr + i) = nI (r i)) (hf : tbC own fee ftc lck r n n (cA σ 60)) (hg : tbM own fee ftc lck r n n (cB τ 71)) {i x : Nat} (hi : i < n) (hx : x < 10) :
    ∃ y, y < 10 ∧ lq1 (c_rent_L59 (nI own) (nI fee) (nI ftc) (nI lck) rr σ (nI x) (nI i)) 0 = some (nI y) ∧ lq1 (m_rent_L58 (nI rr) (nI own) (nI fee) (nI ftc) (nI lck) τ (nI x) (nI i)) 0 = some (nI y) := by
  obtain ⟨y0, hy0, hp⟩ := vv_pick (fun i => cst own fee ftc lck (r i)) n (n - (i + 1)) x
  rw [show n - (n - (i + 1) + 1) = i by omega] at hp
  have key : Sim (lq1 (c_rent_L59 (nI own) (nI fee) (nI ftc) (nI lck) rr σ (nI x) (nI i)) 0) (lq1 (m_rent_L58 (nI rr) (nI own) (nI fee) (nI ftc) (nI lck) τ (nI x) (nI i)) 0) (fun a b => ∃ y, y < 10 ∧ a = nI y ∧ b = nI y) := by
    unfold lq1
    refine lp_sim (y0 + 1) (fun y (p p' : Int32) => y ≤ y0 ∧ p = nI y ∧ p' = nI y) _ ?_ (i := 0) ⟨by omega, nI_0.symm, nI_0.symm⟩
    rintro y p p' ⟨hy, rfl, rfl⟩
    have hy10 : y < 10 := by omega
    have hb1 := vv_2M (own := own) (n := n) (r := r) h1 h2 h3 hn (fun i hi => (hr i hi).1) (k := n - (i + 1)) (x := y) (by omega)
    have hb2 := vv_2M (own := own) (n := n) (r := r) h1 h2 h3 hn (fun i hi => (hr i hi).1) (k := n - (i + 1) + 1) (x := x) (by omega)
    have hc := cst_le (own := own) (x := x) h1 h2 h3 (hr i hi).1 hy10
    have t1 := hf (n - (i + 1)) (by omega) y hy10
    have t2 := hf (n - (i + 1) + 1) (by omega) x hx
    have u1 := hg (n - (i + 1)) (by omega) y hy10
    have u2 := hg (n - (i + 1) + 1) (by omega) x hx
    rw [show n - (n - (i + 1)) = i + 1 by omega] at t1 u1
    rw [show n - (n - (i + 1) + 1) = i by omega] at t2 u2
    have cs : c_rent_L59 (nI own) (nI fee) (nI ftc) (nI lck) rr σ (nI x) (nI i) (nI y) = if cst own fee ftc lck (r i) y x + vv (fun i => cst own fee ftc lck (r i)) n (n - (i + 1)) y = vv (fun i => cst own fee ftc lck (r i)) n (n - (i + 1) + 1) x then some (Sum.inr (nI y)) else some (Sum.inl (nI (y + 1))) := by
      unfold c_rent_L59
      rw [rdD_nI hL hi (by omega), B1_some, (hr i hi).2.1, rcost_is h1 h2 h3 ho (hr i hi).1 hy10 hx (by omega) t1, B1_some, ix10, rdA_nI (by omega) (by decide), B1_some, t2, nI_1]
      by_cases q : cst own fee ftc lck (r i) y x + vv (fun i => cst own fee ftc lck (r i)) n (n - (i + 1)) y = vv (fun i => cst own fee ftc lck (r i)) n (n - (i + 1) + 1) x
      · rw [if_pos (by rw [q]), if_pos q]
      · rw [if_neg (fun g => q ((nI_eq (by omega) (by omega)).mp g)), if_neg q]
    have ms : m_rent_L58 (nI rr) (nI own) (nI fee) (nI ftc) (nI lck) τ (nI x) (nI i) (nI y) = if cst own fee ftc lck (r i) y x + vv (fun i => cst own fee ftc lck (r i)) n (n - (i + 1)) y = vv (fun i => cst own fee ftc lck (r i)) n (n - (i + 1) + 1) x then some (Sum.inr (nI y)) else some (Sum.inl (nI (y + 1))) := by
      unfold m_rent_L58
      rw [ix40, rdA_nI (by omega) (by decide), B1_some, (hr i hi).2.2, cOf_is h1 h2 h3 ho (hr i hi).1 hy10 hx, B1_some, ix10b, rdB_nI (by omega) (by decide), B1_some, ix10, rdB_nI (by omega) (by decide), B1_some, u1, u2, nL_add (by omega), nI_1]
      by_cases q : cst own fee ftc lck (r i) y x + vv (fun i => cst own fee ftc lck (r i)) n (n - (i + 1)) y = vv (fun i => cst own fee ftc lck (r i)) n (n - (i + 1) + 1) x
      · rw [if_pos (by rw [q, lg_cmp_eq]), if_pos q]
      · rw [if_neg (fun g => q ((nL_eq (by omega) (by omega)).mp ((lg_cmp_eq _ _).mp g))), if_neg q]
    by_cases q : cst own fee ftc lck (r i) y x + vv (fun i => cst own fee ftc lck (r i)) n (n - (i + 1)) y = vv (fun i => cst own fee ftc lck (r i)) n (n - (i + 1) + 1) x
    · rw [if_pos q] at cs ms
      exact Or.inr ⟨_, _, cs, ms, y, hy10, rfl, rfl⟩
    · rw [if_neg q] at cs ms
      have hne : y ≠ y0 := fun g => by
        subst g
        exact q hp
      exact Or.inl ⟨by omega, _, _, cs, ms, by omega, rfl, rfl⟩
  obtain ⟨a, b, k1, k2, y, hy, rfl, rfl⟩ := key
  exact ⟨y, hy, k1, k2⟩
end Rent2
