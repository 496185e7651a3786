/-! plain law: rows -/
noncomputable def c_copy (σ : St) (a1 a2 a3 a4 a5 : Int32) : Option (Int32 × St) :=
  B1 (c_isRow a1) fun v2 =>
  if v2 = 0 then (some ((-1), σ)) else
  B1 (c_isRow a3) fun v4 =>
  if v4 = 0 then (some ((-1), σ)) else
  if a5 < 0 then c_found σ 5 else
  B1 (ixA 6 a1) fun k1 =>
  B1 (ixA 6 a3) fun k3 =>
  if (cL σ (100 + k1)).isSome = true then
    (if (cL σ (100 + k3)).isSome = true then
      (B1 (cL σ (100 + k1)) fun n1 =>
      B1 (cL σ (100 + k3)) fun n3 =>
      if 40 < n1 ∨ 40 < n3 then none else
      if a2 < 0 ∨ a4 < 0 ∨ (n1 : Int) < a2.toInt + a5.toInt ∨ (n3 : Int) < a4.toInt + a5.toInt then c_found σ 2 else
      some (1, sAr σ (100 + k3) (va_cpy (cA σ (100 + k1)) (cA σ (100 + k3)) a2.toNatClampNeg a4.toNatClampNeg a5.toNatClampNeg)))
    else c_found σ 1)
  else c_found σ 1
section Rows
variable {σ σ' τ τ' : St}
theorem Rrw.one {b N : Nat} {L L' : Nat → Option Nat} {A A' : Nat → Nat → Int32} {sz rw_ sz' rw' : Nat → Int32} (h : Rrw b N L A sz rw_) {k : Nat} (hL : ∀ i, i < N → i ≠ k → L' (b + i) = L (b + i)) (hA : ∀ i, i < N → i ≠ k → A' (b + i) = A (b + i)) (hs : ∀ i, i < N → i ≠ k → sz' i = sz i) (hr : ∀ i, i < N → i ≠ k → ∀ j, j < 40 → rw' (40 * i + j) = rw_ (40 * i + j))
    (h1 : (L' (b + k) = none ∧ sz' k = -9) ∨ ∃ n, n ≤ 40 ∧ L' (b + k) = some n ∧ sz' k = nI n ∧ ∀ j, j < n → A' (b + k) j = rw' (40 * k + j)) : Rrw b N L' A' sz' rw' := fun i hi => by
  by_cases q : i = k
  · subst q
    exact h1
  · rw [hL i hi q, hA i hi q, hs i hi q]
    rcases h i hi with g | ⟨n, g1, g2, g3, g4⟩
    · exact Or.inl g
    · exact Or.inr ⟨n, g1, g2, g3, fun j hj => by rw [hr i hi q j (by omega)]; exact g4 j hj⟩
theorem R.rset (h : R σ τ) (hq : Req σ' τ') (hI : ∀ k ∈ [5, 16, 34, 40, 58, 69], cI τ' k = cI τ k) (hlo : ∀ k, k < 100 → cA σ' k = cA σ k) (hhi : ∀ k, 120 ≤ k → cL σ' k = cL σ k ∧ cA σ' k = cA σ k) (hM : ∀ k, 11 ≤ k → cA τ' k = cA τ k) (r1 : Rrw 100 6 (cL σ') (cA σ') (cA τ' 6) (cA τ' 7)) (r2 : Rrw 110 4 (cL σ') (cA σ') (cA τ' 9) (cA τ' 10)) : R σ' τ' := by
  obtain ⟨w, n, N, q, h1, h2, h3, h4, h5, h6, h7, h8, h9, h10⟩ := h
  refine ⟨w, n, N, q, ?_, hq, ⟨r1, r2⟩, ?_, ?_, ?_, ?_, ?_, ?_, ?_⟩
  · unfold Cn
    rw [hI 5 (by decide), hI 16 (by decide), hI 34 (by decide), hI 40 (by decide)]
    exact h1
  · exact h4.to (fun k hk => (hhi k hk).1) (fun k hk => (hhi k hk).2) (fun k hk => hM k (by
      have : ∀ k ∈ dynM, 11 ≤ k := by decide
      exact this k hk))
  · rw [hlo 36 (by decide), hlo 37 (by decide), hlo 38 (by decide), hlo 39 (by decide), hM 43 (by decide), hM 41 (by decide), hM 42 (by decide)]
    exact h5
  · rw [hI 58 (by decide), hI 69 (by decide), hlo 48 (by decide), hM 59 (by decide)]
    exact h6
  · rw [hM 35 (by decide), hM 36 (by decide), hM 37 (by decide), hM 38 (by decide), hM 39 (by decide), hM 20 (by decide), hM 26 (by decide)]
    exact h7
  · rw [hM 18 (by decide), hM 19 (by decide), hM 20 (by decide), hM 29 (by decide), hM 30 (by decide), hM 31 (by decide)]
    exact h8
  · rw [hM 21 (by decide), hM 22 (by decide), hM 23 (by decide)]
    exact h9
  · rw [hM 11 (by decide), hM 12 (by decide), hM 13 (by decide), hM 14 (by decide)]
    exact h10
/-- a row on both sides -/
theorem R.rw6 (h : R σ τ) {r : Nat} (hr : r < 6) : (cL σ (100 + r) = none ∧ cA τ 6 r = -9) ∨ ∃ n, n ≤ 40 ∧ cL σ (100 + r) = some n ∧ cA τ 6 r = nI n ∧ ∀ j, j < n → cA σ (100 + r) j = cA τ 7 (40 * r + j) := by
  obtain ⟨w, n, N, q, h1, h2, h3, -⟩ := h
  exact h3.1 r hr
theorem R.tx4 (h : R σ τ) {r : Nat} (hr : r < 4) : (cL σ (110 + r) = none ∧ cA τ 9 r = -9) ∨ ∃ n, n ≤ 40 ∧ cL σ (110 + r) = some n ∧ cA τ 9 r = nI n ∧ ∀ j, j < n → cA σ (110 + r) j = cA τ 10 (40 * r + j) := by
  obtain ⟨w, n, N, q, h1, h2, h3, -⟩ := h
  exact h3.2 r hr
/-- the reference asks for a row -/
theorem askedRow_n (h : R σ τ) {r : Nat} (hr : r < 6) (h6 : cA τ 6 r = -9) : m_askedRow τ (nI r) = some (-3, sA (sI τ 0 1) 1 1 (cA τ 1 1 + 1)) := by
  unfold m_askedRow
  rcases row_cases (nI r) with ⟨j, hj, -, -, e⟩ | ⟨-, e⟩
  · rw [e, B1_some, if_neg k10, rdA_nI hr (by decide), B1_some, h6, if_neg k90, show m_meets τ 1 = _ from meets_is τ (f := 1) (by decide) rfl, B2_some, B2_some]
  · exfalso
    have : m_isRow (nI r) = some 1 := wrap_is (c_in_t (nI_pos (by omega)) (fun g => by
      have := (nI_ltI (a := 5) (b := r) (by decide) (by omega)).mp g
      omega))
    rw [this] at e
    cases e
theorem askedRow_s {r n : Nat} (hr : r < 6) (hn : n ≤ 40) (h6 : cA τ 6 r = nI n) : m_askedRow τ (nI r) = some (0, τ) := by
  have : m_isRow (nI r) = some 1 := wrap_is (c_in_t (nI_pos (by omega)) (fun g => by
    have := (nI_ltI (a := 5) (b := r) (by decide) (by omega)).mp g
    omega))
  unfold m_askedRow
  rw [this, B1_some, if_neg k10, rdA_nI hr (by decide), B1_some, h6, if_pos (nI_pos' (by omega)), B2_some]
theorem askedRow_0 {a : Int32} (e : m_isRow a = some 0) : m_askedRow τ a = some (-1, τ) := by
  unfold m_askedRow
  rw [e, B1_some, if_pos k00, B2_some]
theorem kSm (n : Nat) : (some n).isSome = true := rfl
theorem kSn : ¬ (none : Option Nat).isSome = true := by decide
theorem k0m1 : ¬ (0 : Int32) ≤ -1 := by decide
theorem k0m3 : ¬ (0 : Int32) ≤ -3 := by decide
theorem k0le : (0 : Int32) ≤ 0 := Int32.le_refl 0
theorem ix40 (b i : Nat) : 40 * nI b + nI i = nI (40 * b + i) := by
  show nI 40 * nI b + nI i = _
  rw [pk_mul, nI_add]
theorem row_fill {r : Nat} (hr : r < 6) : ∃ f, lq2 (m_row_L5 (nI r)) τ 0 = some (sAr τ 7 f) ∧ (∀ j, j < 40 → f (40 * r + j) = 0) ∧ ∀ p, (p < 40 * r ∨ 40 * r + 40 ≤ p) → f p = cA τ 7 p := by
  have key : ∃ e, lq2 (m_row_L5 (nI r)) τ 0 = some e ∧ ∃ f, e = sAr τ 7 f ∧ (∀ j, j < 40 → f (40 * r + j) = 0) ∧ ∀ p, (p < 40 * r ∨ 40 * r + 40 ≤ p) → f p = cA τ 7 p := by
    unfold lq2
    refine lp_forI 40 (fun i (q : St × Int32) => i ≤ 40 ∧ q.2 = nI i ∧ ∃ f, q.1 = sAr τ 7 f ∧ (∀ j, j < i → f (40 * r + j) = 0) ∧ ∀ p, (p < 40 * r ∨ 40 * r + 40 ≤ p) → f p = cA τ 7 p) _ ?_ (i := 0) ⟨by omega, nI_0.symm, cA τ 7, (sAr_self τ 7).symm, fun j hj => absurd hj (Nat.not_lt_zero j), fun p _ => rfl⟩
    rintro i ⟨τ1, x⟩ ⟨hi, hx, f, hσ, h1, h2⟩
    dsimp only at hx hσ
    subst hx hσ
    by_cases h8 : i = 40
    · subst h8
      exact Or.inr ⟨_, by show m_row_L5 (nI r) _ (nI 40) = _; unfold m_row_L5; rw [if_pos (by decide)], f, rfl, h1, h2⟩
    · have hi8 : i < 40 := by omega
      refine Or.inl ⟨hi8, (sAr τ 7 (upd f (40 * r + i) 0), nI i + 1), ?_, by omega, nI_1 i, upd f (40 * r + i) 0, rfl, fun j hj => ?_, fun p hp => ?_⟩
      · show m_row_L5 (nI r) (sAr τ 7 f) (nI i) = _
        unfold m_row_L5
        rw [if_neg (show ¬ (40 : Int32) ≤ nI i from nI_ge (b := 40) hi8 (by decide)), ix40, wrA_nI (by omega) (by decide), B1_some, sA1]
      · by_cases q : j = i
        · subst q; rw [upd_at]
        · rw [upd_ne _ (by omega)]; exact h1 j (by omega)
      · rw [upd_ne _ (by omega)]; exact h2 p hp
  obtain ⟨e, k1, f, rfl, k2, k3⟩ := key
  exact ⟨f, k1, k2, k3⟩
theorem s_row (h : R σ τ) (a b : Int32) : Sim (c_row σ a b) (m_row τ a b) Rq := by
  unfold c_row m_row
  rcases row_cases a with ⟨r, hr, rfl, e1, e2⟩ | ⟨e1, e2⟩
  · rw [e1, e2, B1_some, B1_some, if_neg k10, if_neg k10]
    by_cases h40 : b ≤ 40
    · rw [if_pos h40, if_pos h40, ixA_is hr (by decide), B1_some]
      by_cases h0 : b < 0
      · have n0 : ¬ (0 : Int32) ≤ b := fun g => by rw [i32_le] at g; rw [i32_lt] at h0; omega
        rw [if_pos h0, if_neg n0]
        exact found_meets1 h (f := 5) (by decide) rfl
      · obtain ⟨n, hn, rfl⟩ := nI_of2 (M := 40) (n := 40) (by decide) h0 h40
        obtain ⟨f, k1, k2, k3⟩ := row_fill (τ := sA τ 6 r (nI n)) hr
        rw [if_neg h0, if_pos (nI_pos' (by omega)), wrA_nI hr (by decide), B1_some, k1, B1_some, nI_clamp (by omega)]
        obtain ⟨w, nn, N, q, h1, h2, h3, -⟩ := id h
        have L1 : ∀ k, k ≠ 100 + r → k ≠ 109 → cL (movD (newD σ 109 n 0) 109 (100 + r)) k = cL σ k := fun k g1 g2 => by
          unfold movD newD
          simp only [cL_sL, cL_sAr, if_neg g1, if_neg g2]
        have A1 : ∀ k, k ≠ 100 + r → k ≠ 109 → cA (movD (newD σ 109 n 0) 109 (100 + r)) k = cA σ k := fun k g1 g2 => by
          unfold movD newD
          simp only [cA_sL, cA_sAr, if_neg g1, if_neg g2]
        refine ⟨_, _, rfl, rfl, rfl, h.rset (τ' := sAr (sA τ 6 r (nI n)) 7 f) (Req.xL (Req.xL (Req.xAr (Req.xL (Req.xAr (Req.yAr (Req.yA h.eq (by decide)) (by decide)) (eqA_hi (by decide)))) (eqA_hi (by omega))))) (fun k hk => rfl) (fun k hk => A1 k (by omega) (by omega)) (fun k hk => ⟨L1 k (by omega) (by omega), A1 k (by omega) (by omega)⟩) (fun k hk => ?_) ?_ ?_⟩
        · rw [cA_sAr, if_neg (by omega), cA_sA, if_neg (by omega)]
        · refine h3.1.one (k := r) (fun i hi q => L1 _ (by omega) (by omega)) (fun i hi q => A1 _ (by omega) (by omega)) (fun i hi q => upd_ne _ q _) (fun i hi q j hj => ?_) (Or.inr ⟨n, hn, ?_, upd_at _ _ _, fun j hj => ?_⟩)
          · show f (40 * i + j) = _
            exact k3 _ (by omega)
          · unfold movD newD
            rw [cL_sL, if_neg (by omega), cL_sL, if_pos rfl, cL_sL, if_pos rfl]
          · show _ = f (40 * r + j)
            rw [k2 j (by omega)]
            unfold movD newD
            rw [cA_sL, cA_sL, cA_sAr, if_pos rfl, cA_sL, cA_sAr, if_pos rfl]
        · exact h3.2.to (fun k hk => L1 _ (by omega) (by omega)) (fun k hk => A1 _ (by omega) (by omega))
    · rw [if_neg h40, if_neg h40]
      exact h.same _
  · rw [e1, e2, B1_some, B1_some, if_pos k00, if_pos k00]
    exact h.same _
theorem s_tear (h : R σ τ) (a : Int32) : Sim (c_tear σ a) (m_tear τ a) Rq := by
  unfold c_tear m_tear
  rcases row_cases a with ⟨r, hr, rfl, e1, e2⟩ | ⟨e1, e2⟩
  · rw [e1, B1_some, if_neg k10, ixA_is hr (by decide), B1_some]
    rcases h.rw6 hr with ⟨g1, g2⟩ | ⟨n, g1, g2, g3, g4⟩
    · rw [askedRow_n h hr g2, B2_some, if_neg k0m3, g1, if_neg kSn]
      rw [show c_found σ 1 = _ from found_is σ (f := 1) (by decide) rfl, B2_some]
      exact ⟨_, _, rfl, rfl, rfl, h.found 1⟩
    · rw [askedRow_s hr g1 g3, B2_some, if_pos k0le, g2, if_pos (kSm n), B1_some, wrA_nI hr (by decide), B1_some]
      obtain ⟨w, nn, N, q, h1, h2, h3, -⟩ := id h
      refine ⟨_, _, rfl, rfl, rfl, h.rset (Req.xL (Req.yA h.eq (by decide))) (fun k hk => rfl) (fun k hk => rfl) (fun k hk => ⟨?_, rfl⟩) (fun k hk => ?_) ?_ ?_⟩
      · rw [cL_sL, if_neg (by omega)]
      · rw [cA_sA, if_neg (by omega)]
      · refine h3.1.one (k := r) (fun i hi q => ?_) (fun i hi q => rfl) (fun i hi q => upd_ne _ q _) (fun i hi q j hj => rfl) (Or.inl ⟨?_, upd_at _ _ _⟩)
        · rw [cL_sL, if_neg (by omega)]
        · rw [cL_sL, if_pos rfl]
      · exact h3.2.to (fun k hk => by rw [cL_sL, if_neg (by omega)]) (fun k hk => rfl)
  · rw [e1, B1_some, if_pos k00, askedRow_0 e2, B2_some, if_neg k0m1]
    exact h.same _
theorem s_lay (h : R σ τ) (a b c : Int32) : Sim (c_lay σ a b c) (m_lay τ a b c) Rq := by
  unfold c_lay m_lay
  rcases row_cases a with ⟨r, hr, rfl, e1, e2⟩ | ⟨e1, e2⟩
  · rw [e1, B1_some, if_neg k10, ixA_is hr (by decide), B1_some]
    unfold tryD
    rcases h.rw6 hr with ⟨g1, g2⟩ | ⟨n, g1, g2, g3, g4⟩
    · rw [askedRow_n h hr g2, B2_some, if_neg k0m3, g1, if_neg kSn]
      rw [show c_found σ 1 = _ from found_is σ (f := 1) (by decide) rfl]
      exact ⟨_, _, rfl, rfl, rfl, h.found 1⟩
    · rw [askedRow_s hr g1 g3, B2_some, if_pos k0le, g2, if_pos (kSm n), B1_some, if_neg (by omega), rdA_nI hr (by decide), B1_some, g3, m_in_c]
      rcases cnt_cases b (nI n) rfl (by omega) with ⟨j, hj, rfl, e3⟩ | ⟨hno, e3⟩
      · have hin : ¬ (nI j < 0 ∨ n ≤ (nI j).toNatClampNeg) := nI_in hj (by omega)
        rw [e3, B1_some, if_neg k10, if_neg hin, rdD_nI g2 hj (by omega), B1_some, wrD_nI g2 hj (by omega), B1_some, ix40, rdA_nI (by omega) (by decide), B1_some, wrA_nI (by omega) (by decide), B1_some, g4 j hj]
        obtain ⟨w, nn, N, q, h1, h2, h3, -⟩ := id h
        refine ⟨_, _, rfl, rfl, rfl, h.rset (Req.yA (Req.wI (Req.xA h.eq (eqA_hi (by omega))) (by decide) rfl) (by decide)) (fun k hk => ?_) (fun k hk => ?_) (fun k hk => ⟨rfl, ?_⟩) (fun k hk => ?_) ?_ ?_⟩
        · rw [cI_sA, cI_sI, if_neg (fun q => by subst q; revert hk; decide)]
        · show cA (sA σ (100 + r) j c) k = _
          rw [cA_sA, if_neg (by omega)]
        · show cA (sA σ (100 + r) j c) k = _
          rw [cA_sA, if_neg (by omega)]
        · rw [cA_sA, if_neg (by omega)]
          rfl
        · refine h3.1.one (k := r) (fun i hi q => rfl) (fun i hi q => ?_) (fun i hi q => rfl) (fun i hi q j' hj' => ?_) (Or.inr ⟨n, g1, g2, g3, fun j' hj' => ?_⟩)
          · show cA (sA σ (100 + r) j c) (100 + i) = _
            rw [cA_sA, if_neg (by omega)]
          · show upd (cA τ 7) (40 * r + j) c (40 * i + j') = _
            rw [upd_ne _ (by omega)]
          · show cA (sA σ (100 + r) j c) (100 + r) j' = upd (cA τ 7) (40 * r + j) c (40 * r + j')
            rw [cA_sA, if_pos rfl]
            by_cases q2 : j' = j
            · subst q2; rw [upd_at, upd_at]
            · rw [upd_ne _ q2, upd_ne _ (by omega)]; exact g4 j' hj'
        · refine h3.2.to (fun k hk => rfl) (fun k hk => ?_)
          show cA (sA σ (100 + r) j c) (110 + k) = _
          rw [cA_sA, if_neg (by omega)]
      · have hin : b < 0 ∨ n ≤ b.toNatClampNeg := by
          by_cases q : b < 0
          · exact Or.inl q
          · obtain ⟨j, hj, rfl⟩ := nI_of q
            refine Or.inr ?_
            rw [nI_clamp hj]
            exact Nat.le_of_not_lt (fun g => hno j g rfl)
        rw [e3, B1_some, if_pos k00, if_pos hin]
        rw [show c_found σ 2 = _ from found_is σ (f := 2) (by decide) rfl, show m_meets τ 2 = _ from meets_is τ (f := 2) (by decide) rfl, B2_some]
        exact ⟨_, _, rfl, rfl, rfl, h.found 2⟩
  · rw [e1, B1_some, if_pos k00, askedRow_0 e2, B2_some, if_neg k0m1]
    exact h.same _
end Rows
