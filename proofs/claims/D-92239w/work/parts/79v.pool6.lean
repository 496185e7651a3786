/-! plain law: pool, the start; joined -/
section Pool6
variable {σ σ' σ0 τ τ' τ0 : St} {ra rb : Nat}
def g30 (f g : Nat → Int32) : Nat → Bool
  | 0 => true
  | k + 1 => g30 f g k && (decide (¬ f k < 0 ∧ ¬ 30 < f k) && decide (¬ g k < 0 ∧ ¬ 30 < g k))
theorem in30 (v : Int32) : c_in v 0 30 = some (b01 (decide (¬ v < 0 ∧ ¬ 30 < v))) := by
  by_cases g : ¬ v < 0 ∧ ¬ 30 < v
  · rw [c_in_t g.1 g.2, decide_eq_true g]; rfl
  · rw [c_in_f (Classical.byContradiction fun q => g ⟨fun q1 => q (Or.inl q1), fun q1 => q (Or.inr q1)⟩), decide_eq_false g]; rfl
theorem n30 {v : Int32} (h : ¬ v < 0 ∧ ¬ 30 < v) : v = nI (nN v) ∧ nN v ≤ 30 := by
  rcases rng_cases v 30 (N := 30) (by decide) with ⟨j, hj, ej, -⟩ | ⟨-, ej⟩
  · rw [ej, nN_nI (by omega)]; exact ⟨rfl, hj⟩
  · rw [c_in_t h.1 h.2] at ej; cases ej
theorem mx0 {a b : Nat} (ha : a ≤ 30) (hb : b ≤ 30) : j_max 0 (nI a - nI b) = some (nI (a - b)) := by
  rw [j_max_is]
  by_cases q : b < a
  · rw [pk_sub (show b ≤ a by omega), if_pos (show (0 : Int32) < nI (a - b) from (nI_ltI (a := 0) (by decide) (by omega)).mpr (by omega))]
  · have hx : ∀ a, a ≤ 30 → ∀ b, b ≤ 30 → ¬ b < a → ¬ (0 : Int32) < nI a - nI b := by decide +kernel
    rw [if_neg (hx a ha b hb q), show a - b = 0 by omega]; rfl
theorem L25_C (hra : ra < 6) (hrb : rb < 6) (hLa : cL σ (100 + ra) = some 8) (hLb : cL σ (100 + rb) = some 8) {f g : Nat → Int32} (hf : cA σ (100 + ra) = f) (hg : cA σ (100 + rb) = g) :
    ∃ σ', lq3 (c_pool_L25 (nI ra) (nI rb)) σ 1 0 = some (σ', b01 (g30 f g 8)) ∧ ScC σ σ' ∧ (g30 f g 8 = true → ∀ i, i < 8 → cA σ' 52 i = nI (nN (f i) - nN (g i)) ∧ cA σ' 53 i = nI (nN (g i) - nN (f i))) := by
  have key : ∃ e, lq3 (c_pool_L25 (nI ra) (nI rb)) σ 1 0 = some e ∧ e.2 = b01 (g30 f g 8) ∧ ScC σ e.1 ∧ (g30 f g 8 = true → ∀ i, i < 8 → cA e.1 52 i = nI (nN (f i) - nN (g i)) ∧ cA e.1 53 i = nI (nN (g i) - nN (f i))) := by
    unfold lq3
    refine lp_forI 8 (fun k (p : St × Int32 × Int32) => k ≤ 8 ∧ p.2.2 = nI k ∧ p.2.1 = b01 (g30 f g k) ∧ ScC σ p.1 ∧ (g30 f g k = true → ∀ i, i < k → cA p.1 52 i = nI (nN (f i) - nN (g i)) ∧ cA p.1 53 i = nI (nN (g i) - nN (f i)))) _ ?_ (i := 0) ⟨by omega, nI_0.symm, rfl, ScC.rfl, fun _ i hi => absurd hi (Nat.not_lt_zero i)⟩
    rintro k ⟨σ1, a, b⟩ ⟨hk, hb, ha, hS, hv⟩
    dsimp only at hb ha hS hv
    subst hb ha
    by_cases h8 : k = 8
    · subst h8
      exact Or.inr ⟨(σ1, b01 (g30 f g 8)), by show c_pool_L25 _ _ σ1 _ (nI 8) = _; unfold c_pool_L25; rw [if_pos (by decide)], rfl, hS, hv⟩
    · have hk2 : k < 8 := by omega
      have rA : ∀ s, ScC σ s → rdD s (100 + ra) (nI k) = some (f k) := fun s hs => by
        rw [rdD_nI ((hs.2.2.2 _).trans hLa) hk2 (by decide), hs.2.2.1 _ (sc_hi (by omega)), hf]
      have rB : ∀ s, ScC σ s → rdD s (100 + rb) (nI k) = some (g k) := fun s hs => by
        rw [rdD_nI ((hs.2.2.2 _).trans hLb) hk2 (by decide), hs.2.2.1 _ (sc_hi (by omega)), hg]
      have xA : ∀ s, ScC σ s → ixD s 100 6 (nI ra) = some ra := fun s hs => ixD_is hra (by decide) ((hs.2.2.2 _).trans hLa)
      have xB : ∀ s, ScC σ s → ixD s 100 6 (nI rb) = some rb := fun s hs => ixD_is hrb (by decide) ((hs.2.2.2 _).trans hLb)
      generalize hm1 : (if (0 : Int32) < f k - g k then f k - g k else 0) = M1
      generalize hm2 : (if (0 : Int32) < g k - f k then g k - f k else 0) = M2
      have hS1 : ScC σ (sA σ1 52 k M1) := hS.wA (by decide)
      have hx : ((if b01 (decide (¬ f k < 0 ∧ ¬ 30 < f k)) = 0 then some 0 else (B1 (some rb) fun k39 => B1 (rdD σ1 (100 + k39) (nI k)) fun v41 => B1 (c_in v41 0 30) fun v44 => if v44 = 0 then some 0 else some 1)) : Option Int32) = some (b01 (decide (¬ f k < 0 ∧ ¬ 30 < f k) && decide (¬ g k < 0 ∧ ¬ 30 < g k))) := by
        rw [B1_some, rB σ1 hS, B1_some, in30, B1_some]
        cases decide (¬ f k < 0 ∧ ¬ 30 < f k) <;> cases decide (¬ g k < 0 ∧ ¬ 30 < g k) <;> rfl
      have e1 : c_pool_L25 (nI ra) (nI rb) σ1 (b01 (g30 f g k)) (nI k) = some (Sum.inl (sA (sA σ1 52 k M1) 53 k M2, b01 (g30 f g (k + 1)), nI k + 1)) := by
        unfold c_pool_L25
        rw [if_neg (ge8 hk2), xA σ1 hS, B1_some, rA σ1 hS, B1_some, in30, B1_some, xB σ1 hS, hx, B1_some, B1_some, rA σ1 hS, B1_some, B1_some, rB σ1 hS, B1_some, j_max_is, hm1, B1_some, wrA_nI hk2 (by decide), B1_some, xB _ hS1, B1_some, rB _ hS1, B1_some, xA _ hS1, B1_some, rA _ hS1, B1_some, j_max_is, hm2, B1_some, wrA_nI hk2 (by decide), B1_some, b01_and]
        rfl
      refine Or.inl ⟨hk2, _, e1, by omega, nI_1 k, rfl, hS1.wA (by decide), fun hgk i hi => ?_⟩
      dsimp only
      rw [g30, Bool.and_eq_true, Bool.and_eq_true] at hgk
      rw [cA_sA, if_neg (by decide), cA_sA, if_pos rfl, cA_sA, if_pos rfl, cA_sA, if_neg (by decide)]
      by_cases q : i = k
      · subst q
        obtain ⟨f1, f2⟩ := n30 (of_decide_eq_true hgk.2.1)
        obtain ⟨g1, g2⟩ := n30 (of_decide_eq_true hgk.2.2)
        rw [upd_at, upd_at]
        have a1 := mx0 f2 g2
        have a2 := mx0 g2 f2
        rw [← f1, ← g1, j_max_is, hm1] at a1
        rw [← f1, ← g1, j_max_is, hm2] at a2
        exact ⟨Option.some.inj a1, Option.some.inj a2⟩
      · rw [upd_ne _ q, upd_ne _ q]
        exact hv hgk.1 i (by omega)
  obtain ⟨⟨σ', b⟩, k1, k2, k3, k4⟩ := key
  dsimp only at k2 k3 k4
  subst k2
  exact ⟨σ', k1, k3, k4⟩
theorem L19_M (hra : ra < 6) (hrb : rb < 6) {f g : Nat → Int32} (hf : ∀ j, j < 8 → cA τ 7 (40 * ra + j) = f j) (hg : ∀ j, j < 8 → cA τ 7 (40 * rb + j) = g j) :
    (g30 f g 8 = true ∧ ∃ τ', lq3 (m_pool_L19 (nI ra) (nI rb)) τ 0 0 = some (Sum.inl (τ', nI (smP (fun i => nN (g i) - nN (f i)) 8))) ∧ ScM τ τ' ∧ ∀ i, i < 8 → cA τ' 64 i = nI (nN (f i) - nN (g i)) ∧ cA τ' 65 i = nI (nN (g i) - nN (f i))) ∨
    (g30 f g 8 = false ∧ ∃ τ', lq3 (m_pool_L19 (nI ra) (nI rb)) τ 0 0 = some (Sum.inr (-3, sA (sI τ' 0 3) 1 3 (cA τ' 1 3 + 1))) ∧ ScM τ τ') := by
  have hno : ∀ k, k < 8 → (decide (¬ f k < 0 ∧ ¬ 30 < f k) && decide (¬ g k < 0 ∧ ¬ 30 < g k)) = false → g30 f g 8 = false := fun k hk q => by
    have : ∀ n, k < n → g30 f g n = false := by
      intro n
      induction n with
      | zero => intro h; omega
      | succ n ih =>
        intro h
        rw [g30]
        by_cases z : k = n
        · subst z; rw [q, Bool.and_false]
        · rw [ih (by omega), Bool.false_and]
    exact this 8 hk
  have key : ∃ e, lq3 (m_pool_L19 (nI ra) (nI rb)) τ 0 0 = some e ∧ ((g30 f g 8 = true ∧ ∃ τ', e = Sum.inl (τ', nI (smP (fun i => nN (g i) - nN (f i)) 8)) ∧ ScM τ τ' ∧ ∀ i, i < 8 → cA τ' 64 i = nI (nN (f i) - nN (g i)) ∧ cA τ' 65 i = nI (nN (g i) - nN (f i))) ∨ (g30 f g 8 = false ∧ ∃ τ', e = Sum.inr (-3, sA (sI τ' 0 3) 1 3 (cA τ' 1 3 + 1)) ∧ ScM τ τ')) := by
    unfold lq3
    refine lp_forI 8 (fun k (p : St × Int32 × Int32) => k ≤ 8 ∧ p.2.2 = nI k ∧ p.2.1 = nI (smP (fun i => nN (g i) - nN (f i)) k) ∧ g30 f g k = true ∧ ScM τ p.1 ∧ ∀ i, i < k → cA p.1 64 i = nI (nN (f i) - nN (g i)) ∧ cA p.1 65 i = nI (nN (g i) - nN (f i))) _ ?_ (i := 0) ⟨by omega, nI_0.symm, rfl, rfl, ScM.rfl, fun i hi => absurd hi (Nat.not_lt_zero i)⟩
    rintro k ⟨τ1, a, b⟩ ⟨hk, hb, ha, hgk, hS, hv⟩
    dsimp only at hb ha hS hv
    subst hb ha
    by_cases h8 : k = 8
    · subst h8
      exact Or.inr ⟨_, by show m_pool_L19 _ _ τ1 _ (nI 8) = _; unfold m_pool_L19; rw [if_pos (by decide)], Or.inl ⟨hgk, τ1, rfl, hS, hv⟩⟩
    · have hk2 : k < 8 := by omega
      have rA : rdA 240 τ1 7 (40 * nI ra + nI k) = some (f k) := by rw [ix40, rdA_nI (by omega) (by decide), hS.2.2 7 (by decide), hf k hk2]
      have rB : rdA 240 τ1 7 (40 * nI rb + nI k) = some (g k) := by rw [ix40, rdA_nI (by omega) (by decide), hS.2.2 7 (by decide), hg k hk2]
      have hmt : m_meets τ1 3 = some (-3, sA (sI τ1 0 3) 1 3 (cA τ1 1 3 + 1)) := meets_is τ1 (f := 3) (by decide) rfl
      by_cases qf : ¬ f k < 0 ∧ ¬ 30 < f k
      · by_cases qg : ¬ g k < 0 ∧ ¬ 30 < g k
        · obtain ⟨f1, f2⟩ := n30 qf
          obtain ⟨g1, g2⟩ := n30 qg
          have x1 : ((if f k ≤ g k then some 0 else some (f k - g k)) : Option Int32) = some (nI (nN (f k) - nN (g k))) := by
            rw [f1, g1, nN_nI (by omega), nN_nI (by omega)]
            by_cases q : nN (f k) ≤ nN (g k)
            · rw [if_pos (nI_le q (by omega)), show nN (f k) - nN (g k) = 0 by omega]; rfl
            · rw [if_neg (nI_ge (by omega) (by omega)), pk_sub (by omega)]
          have x2 : ((if g k ≤ f k then some 0 else some (g k - f k)) : Option Int32) = some (nI (nN (g k) - nN (f k))) := by
            rw [f1, g1, nN_nI (by omega), nN_nI (by omega)]
            by_cases q : nN (g k) ≤ nN (f k)
            · rw [if_pos (nI_le q (by omega)), show nN (g k) - nN (f k) = 0 by omega]; rfl
            · rw [if_neg (nI_ge (by omega) (by omega)), pk_sub (by omega)]
          have hS2 : ScM τ (sA (sA τ1 64 k (nI (nN (f k) - nN (g k)))) 65 k (nI (nN (g k) - nN (f k)))) := (hS.wA (by decide)).wA (by decide)
          have e65 : cA (sA (sA τ1 64 k (nI (nN (f k) - nN (g k)))) 65 k (nI (nN (g k) - nN (f k)))) 65 k = nI (nN (g k) - nN (f k)) := by
            rw [cA_sA, if_pos rfl, upd_at]
          have e1 : m_pool_L19 (nI ra) (nI rb) τ1 (nI (smP (fun i => nN (g i) - nN (f i)) k)) (nI k) = some (Sum.inl (sA (sA τ1 64 k (nI (nN (f k) - nN (g k)))) 65 k (nI (nN (g k) - nN (f k))), nI (smP (fun i => nN (g i) - nN (f i)) (k + 1)), nI k + 1)) := by
            unfold m_pool_L19
            rw [if_neg (ge8 hk2), rA, B1_some, rB, B1_some, m_in_c, c_in_t qf.1 qf.2, B1_some, if_neg k10, m_in_c, c_in_t qg.1 qg.2, B1_some, if_neg k10, x1, B1_some, wrA_nI hk2 (by decide), B1_some, x2, B1_some, wrA_nI hk2 (by decide), B1_some, rdA_nI hk2 (by decide), B1_some, e65, nI_add]
            rfl
          refine Or.inl ⟨hk2, _, e1, by omega, nI_1 k, rfl, ?_, hS2, fun i hi => ?_⟩
          · rw [g30, hgk, decide_eq_true qf, decide_eq_true qg]; rfl
          · dsimp only
            rw [cA_sA, if_neg (by decide), cA_sA, if_pos rfl, cA_sA, if_pos rfl, cA_sA, if_neg (by decide)]
            by_cases q : i = k
            · subst q; rw [upd_at, upd_at]; exact ⟨rfl, rfl⟩
            · rw [upd_ne _ q, upd_ne _ q]; exact hv i (by omega)
        · refine Or.inr ⟨Sum.inr (-3, sA (sI τ1 0 3) 1 3 (cA τ1 1 3 + 1)), ?_, Or.inr ⟨hno k hk2 (by rw [decide_eq_false qg, Bool.and_false]), τ1, rfl, hS⟩⟩
          show m_pool_L19 _ _ τ1 _ (nI k) = _
          unfold m_pool_L19
          rw [if_neg (ge8 hk2), rA, B1_some, rB, B1_some, m_in_c, c_in_t qf.1 qf.2, B1_some, if_neg k10, m_in_c, in30, decide_eq_false qg, B1_some, if_pos (show b01 false = 0 from rfl), hmt, B2_some]
      · refine Or.inr ⟨Sum.inr (-3, sA (sI τ1 0 3) 1 3 (cA τ1 1 3 + 1)), ?_, Or.inr ⟨hno k hk2 (by rw [decide_eq_false qf, Bool.false_and]), τ1, rfl, hS⟩⟩
        show m_pool_L19 _ _ τ1 _ (nI k) = _
        unfold m_pool_L19
        rw [if_neg (ge8 hk2), rA, B1_some, rB, B1_some, m_in_c, in30, decide_eq_false qf, B1_some, if_pos (show b01 false = 0 from rfl), hmt, B2_some]
  obtain ⟨e, k1, ⟨k2, τ', rfl, k3⟩ | ⟨k2, τ', rfl, k3⟩⟩ := key
  · exact Or.inl ⟨k2, τ', k1, k3⟩
  · exact Or.inr ⟨k2, τ', k1, k3⟩
noncomputable def coC (τ0 : St) (now i j : Nat) : Option Nat := if i = j then none else (co τ0 i now j).map fun t => t - now
noncomputable def coM (τ0 : St) (now i j : Nat) : Option Nat := (co τ0 i now j).map fun t => t - now
theorem L75_C {now a : Nat} {D : Nat → Option Nat} (ha : a < 8) (h16 : ∀ y, y < 8 → cA σ 16 y = e9 (D y)) (hD : ∀ y t, y < 8 → D y = some t → now ≤ t ∧ t ≤ now + 28000) (hnow : now ≤ 99999) (h11 : cI σ 11 = nI now) :
    ∃ f g, lq2 (c_pool_L75 (nI a)) σ 0 = some (sAr (sAr σ 54 f) 55 g) ∧ (∀ y, y < 8 → f (8 * a + y) = enc (-9) (if a = y then none else (D y).map fun t => t - now) ∧ g (8 * a + y) = 0) ∧ ∀ p, (p < 8 * a ∨ 8 * a + 8 ≤ p) → f p = cA σ 54 p ∧ g p = cA σ 55 p := by
  have key : ∃ e, lq2 (c_pool_L75 (nI a)) σ 0 = some e ∧ ∃ f g, e = sAr (sAr σ 54 f) 55 g ∧ (∀ y, y < 8 → f (8 * a + y) = enc (-9) (if a = y then none else (D y).map fun t => t - now) ∧ g (8 * a + y) = 0) ∧ ∀ p, (p < 8 * a ∨ 8 * a + 8 ≤ p) → f p = cA σ 54 p ∧ g p = cA σ 55 p := by
    unfold lq2
    refine lp_forI 8 (fun i (q : St × Int32) => i ≤ 8 ∧ q.2 = nI i ∧ ∃ f g, q.1 = sAr (sAr σ 54 f) 55 g ∧ (∀ y, y < i → f (8 * a + y) = enc (-9) (if a = y then none else (D y).map fun t => t - now) ∧ g (8 * a + y) = 0) ∧ ∀ p, (p < 8 * a ∨ 8 * a + 8 ≤ p) → f p = cA σ 54 p ∧ g p = cA σ 55 p) _ ?_ (i := 0) ⟨by omega, nI_0.symm, cA σ 54, cA σ 55, by rw [sAr_self, sAr_self], fun y hy => absurd hy (Nat.not_lt_zero y), fun p _ => ⟨rfl, rfl⟩⟩
    rintro i ⟨s1, y⟩ ⟨hi, hy, f, g, hs, hf, hp⟩
    dsimp only at hy hs
    subst hy hs
    by_cases h8 : i = 8
    · subst h8
      exact Or.inr ⟨_, by show c_pool_L75 _ _ (nI 8) = _; unfold c_pool_L75; rw [if_pos (by decide)], f, g, rfl, hf, hp⟩
    · have hi2 : i < 8 := by omega
      have r16 : rdA 8 (sAr (sAr σ 54 f) 55 g) 16 (nI i) = some (e9 (D i)) := by
        rw [rdA_nI hi2 (by decide), cA_sAr_ne _ (by decide), cA_sAr_ne _ (by decide), h16 i hi2]
      have e11 : cI (sAr (sAr σ 54 f) 55 g) 11 = nI now := h11
      have hx : ((if nI a = nI i then some (-9) else (B1 (some (e9 (D i))) fun v81 => if v81 = -9 then some (-9) else (B1 (some (e9 (D i))) fun v83 => some (v83 - nI now)))) : Option Int32) = some (enc (-9) (if a = i then none else (D i).map fun t => t - now)) := by
        by_cases q : a = i
        · rw [if_pos (by rw [q]), if_pos q]; rfl
        · rw [if_neg (fun z => q ((nI_eq (by omega) (by omega)).mp z)), if_neg q, B1_some, B1_some]
          cases hd : D i with
          | none => rw [if_pos (show e9 none = -9 from rfl)]; rfl
          | some t =>
            obtain ⟨t1, t2⟩ := hD i t hi2 hd
            rw [if_neg (show ¬ e9 (some t) = -9 from nI_n9 (by omega)), show e9 (some t) = nI t from rfl, pk_sub t1]
            rfl
      generalize hE : enc (-9) (if a = i then none else (D i).map fun t => t - now) = E at hx
      refine Or.inl ⟨hi2, (sAr (sAr σ 54 (upd f (8 * a + i) E)) 55 (upd g (8 * a + i) 0), nI i + 1), ?_, by omega, nI_1 i, _, _, rfl, fun y hy => ?_, fun p hpp => ?_⟩
      · show c_pool_L75 _ _ (nI i) = _
        unfold c_pool_L75
        rw [if_neg (ge8 hi2), r16, e11, hx, B1_some, ix8, wrA_nI (by omega) (by decide), B1_some, wrA_nI (by omega) (by decide), B1_some, sA_6 (by decide), sA_sAr]
      · by_cases q : y = i
        · subst q; rw [upd_at, upd_at]; exact ⟨hE.symm, rfl⟩
        · rw [upd_ne _ (by omega), upd_ne _ (by omega)]; exact hf y (by omega)
      · rw [upd_ne _ (by omega), upd_ne _ (by omega)]; exact hp p hpp
  obtain ⟨e, k1, f, g, rfl, k2, k3⟩ := key
  exact ⟨f, g, k1, k2, k3⟩
theorem L69p_C (h : R σ0 τ0) (hC : ScC σ0 σ) {now : Nat} (hnow : now ≤ 99999) (h11 : cI σ0 11 = nI now) :
    ∃ σ', lq2 c_pool_L69 σ 0 = some σ' ∧ ScC σ0 σ' ∧ cA σ' 52 = cA σ 52 ∧ cA σ' 53 = cA σ 53 ∧ ∀ i j, i < 8 → j < 8 → cA σ' 54 (8 * i + j) = enc (-9) (coC τ0 now i j) ∧ cA σ' 55 (8 * i + j) = 0 := by
  have key : ∃ e, lq2 c_pool_L69 σ 0 = some e ∧ ScC σ0 e ∧ cA e 52 = cA σ 52 ∧ cA e 53 = cA σ 53 ∧ ∀ i j, i < 8 → j < 8 → cA e 54 (8 * i + j) = enc (-9) (coC τ0 now i j) ∧ cA e 55 (8 * i + j) = 0 := by
    unfold lq2
    refine lp_forI 8 (fun k (q : St × Int32) => k ≤ 8 ∧ q.2 = nI k ∧ ScC σ0 q.1 ∧ cA q.1 52 = cA σ 52 ∧ cA q.1 53 = cA σ 53 ∧ ∀ i j, i < k → j < 8 → cA q.1 54 (8 * i + j) = enc (-9) (coC τ0 now i j) ∧ cA q.1 55 (8 * i + j) = 0) _ ?_ (i := 0) ⟨by omega, nI_0.symm, hC, rfl, rfl, fun i j hi => absurd hi (Nat.not_lt_zero i)⟩
    rintro k ⟨σ1, y⟩ ⟨hk, hy, hS, h52, h53, hv⟩
    dsimp only at hy hS h52 h53 hv
    subst hy
    by_cases h8 : k = 8
    · subst h8
      exact Or.inr ⟨_, by show c_pool_L69 _ (nI 8) = _; unfold c_pool_L69; rw [if_pos (by decide)], hS, h52, h53, hv⟩
    · have hk2 : k < 8 := by omega
      have hR1 : R σ1 τ0 := h.scr hS ScM.rfl
      obtain ⟨D, f, g, j1, j2, j3, j4, j5⟩ := hR1.lead hk2 (s := now) (by omega)
      have hco : ∀ y, y < 8 → co τ0 k now y = D y := fun y hy => by
        obtain ⟨f', q⟩ := j5 y hy
        exact co_eq q (fun t ht => by have := (j3 y t hy ht).2; omega)
      have e11 : cI σ1 11 = nI now := (hS.1 11 (by decide)).trans h11
      obtain ⟨f2, g2, l1, l2, l3⟩ := L75_C (σ := sAr (sAr σ1 16 f) 17 g) (now := now) (D := D) hk2 (fun y hy => by rw [cA_sAr_ne _ (by decide), cA_sAr_at]; exact j2 y hy) (fun y t hy ht => j3 y t hy ht) hnow e11
      refine Or.inl ⟨hk2, (sAr (sAr (sAr (sAr σ1 16 f) 17 g) 54 f2) 55 g2, nI k + 1), ?_, by omega, nI_1 k, (((hS.wAr (by decide)).wAr (by decide)).wAr (by decide)).wAr (by decide), ?_, ?_, fun i j hi hj => ?_⟩
      · show c_pool_L69 _ (nI k) = _
        unfold c_pool_L69
        rw [if_neg (ge8 hk2), e11, j1, B1_some, l1, B1_some]
      · show cA (sAr (sAr (sAr (sAr σ1 16 f) 17 g) 54 f2) 55 g2) 52 = _
        rw [cA_sAr_ne _ (by decide), cA_sAr_ne _ (by decide), cA_sAr_ne _ (by decide), cA_sAr_ne _ (by decide)]; exact h52
      · show cA (sAr (sAr (sAr (sAr σ1 16 f) 17 g) 54 f2) 55 g2) 53 = _
        rw [cA_sAr_ne _ (by decide), cA_sAr_ne _ (by decide), cA_sAr_ne _ (by decide), cA_sAr_ne _ (by decide)]; exact h53
      · show cA (sAr (sAr (sAr (sAr σ1 16 f) 17 g) 54 f2) 55 g2) 54 (8 * i + j) = _ ∧ cA (sAr (sAr (sAr (sAr σ1 16 f) 17 g) 54 f2) 55 g2) 55 (8 * i + j) = _
        rw [cA_sAr_ne _ (by decide), cA_sAr_at, cA_sAr_at]
        by_cases q : i = k
        · subst q
          obtain ⟨z1, z2⟩ := l2 j hj
          refine ⟨?_, z2⟩
          rw [z1]
          unfold coC
          rw [hco j hj]
        · obtain ⟨z1, z2⟩ := l3 (8 * i + j) (by omega)
          rw [z1, z2, cA_sAr_ne _ (by decide), cA_sAr_ne _ (by decide), cA_sAr_ne _ (by decide), cA_sAr_ne _ (by decide)]
          exact hv i j (by omega) hj
  exact key
theorem L49_M (h : R σ0 τ0) (hM : ScM τ0 τ) {now : Nat} (hnow : now ≤ 99999) (m5 : cI τ0 5 = nI now) :
    ∃ τ', lq2 m_pool_L49 τ 0 = some τ' ∧ ScM τ0 τ' ∧ cA τ' 64 = cA τ 64 ∧ cA τ' 65 = cA τ 65 ∧ ∀ i j, i < 8 → j < 8 → cA τ' 66 (8 * i + j) = enc 100000000 (coM τ0 now i j) ∧ cA τ' 63 (8 * i + j) = 0 := by
  have key : ∃ e, lq2 m_pool_L49 τ 0 = some e ∧ ScM τ0 e ∧ cA e 64 = cA τ 64 ∧ cA e 65 = cA τ 65 ∧ ∀ i j, i < 8 → j < 8 → cA e 66 (8 * i + j) = enc 100000000 (coM τ0 now i j) ∧ cA e 63 (8 * i + j) = 0 := by
    unfold lq2
    refine lp_forI 64 (fun k (q : St × Int32) => k ≤ 64 ∧ q.2 = nI k ∧ ScM τ0 q.1 ∧ cA q.1 64 = cA τ 64 ∧ cA q.1 65 = cA τ 65 ∧ ∀ i j, i < 8 → j < 8 → 8 * i + j < k → cA q.1 66 (8 * i + j) = enc 100000000 (coM τ0 now i j) ∧ cA q.1 63 (8 * i + j) = 0) _ ?_ (i := 0) ⟨by omega, nI_0.symm, hM, rfl, rfl, fun i j _ _ hi => absurd hi (Nat.not_lt_zero _)⟩
    rintro k ⟨τ1, y⟩ ⟨hk, hy, hS, h64, h65, hv⟩
    dsimp only at hy hS h64 h65 hv
    subst hy
    by_cases h8 : k = 64
    · subst h8
      exact Or.inr ⟨_, by show m_pool_L49 _ (nI 64) = _; unfold m_pool_L49; rw [if_pos (by decide)], hS, h64, h65, fun i j hi hj => hv i j hi hj (by omega)⟩
    · have hk2 : k < 64 := by omega
      have hS1 : ScM τ0 (sA τ1 63 k 0) := hS.wA (by decide)
      have md : nI k - nI (k / 8) * 8 = nI (k % 8) := by
        rw [← dv8 hk2]
        exact pk_rem (d := 8) (by omega) (by decide) (by decide)
      obtain ⟨-, ⟨f, c2⟩, c3⟩ := co_is h ScC.rfl hS1 (a := k / 8) (b := k % 8) (by omega) (show now ≤ 50000000 by omega) (by omega)
      have e5 : cI (sA τ1 63 k 0) 5 = nI now := (hS1.1 5 (by decide)).trans m5
      have e5' : cI (sAr (sA τ1 63 k 0) 15 f) 5 = nI now := e5
      have hx : ((if (100000000 : Int32) ≤ eM (co τ0 (k / 8) now (k % 8)) then some 100000000 else some (eM (co τ0 (k / 8) now (k % 8)) - nI now)) : Option Int32) = some (enc 100000000 (coM τ0 now (k / 8) (k % 8))) := by
        unfold coM
        cases hc : co τ0 (k / 8) now (k % 8) with
        | none => exact if_pos (Int32.le_refl _)
        | some t =>
          obtain ⟨t1, t2⟩ := c3 t hc
          rw [if_neg (show ¬ (100000000 : Int32) ≤ eM (some t) from nI_ge (b := 100000000) (by omega) (by decide)), show eM (some t) = nI t from rfl, pk_sub t1]
          rfl
      refine Or.inl ⟨hk2, (sA (sAr (sA τ1 63 k 0) 15 f) 66 k (enc 100000000 (coM τ0 now (k / 8) (k % 8))), nI k + 1), ?_, by omega, nI_1 k, (hS1.wAr (by decide)).wA (by decide), ?_, ?_, fun i j hi hj hij => ?_⟩
      · show m_pool_L49 _ (nI k) = _
        unfold m_pool_L49
        rw [if_neg (ge64 hk2), wrA_nI hk2 (by decide), B1_some, dv8 hk2, md, e5, c2, B2_some, e5', hx, B1_some, wrA_nI hk2 (by decide), B1_some]
      · show cA (sA (sAr (sA τ1 63 k 0) 15 f) 66 k _) 64 = _
        rw [cA_sA, if_neg (by decide), cA_sAr_ne _ (by decide), cA_sA, if_neg (by decide)]; exact h64
      · show cA (sA (sAr (sA τ1 63 k 0) 15 f) 66 k _) 65 = _
        rw [cA_sA, if_neg (by decide), cA_sAr_ne _ (by decide), cA_sA, if_neg (by decide)]; exact h65
      · show cA (sA (sAr (sA τ1 63 k 0) 15 f) 66 k _) 66 (8 * i + j) = _ ∧ cA (sA (sAr (sA τ1 63 k 0) 15 f) 66 k _) 63 (8 * i + j) = _
        rw [cA_sA, if_pos rfl, cA_sA, if_neg (by decide), cA_sAr_ne _ (by decide), cA_sAr_ne _ (by decide), cA_sA, if_neg (by decide), cA_sA, if_pos rfl]
        by_cases q : 8 * i + j = k
        · rw [q, upd_at, upd_at, show k / 8 = i by omega, show k % 8 = j by omega]
          exact ⟨rfl, rfl⟩
        · rw [upd_ne _ q, upd_ne _ q]
          exact hv i j hi hj (by omega)
  exact key
theorem pool_tail (h : R σ τ) (hra : ra < 6) (hrb : rb < 6) (hLa : cL σ (100 + ra) = some 8) (hLb : cL σ (100 + rb) = some 8) (hA : ∀ j, j < 8 → cA σ (100 + ra) j = cA τ 7 (40 * ra + j)) (hB : ∀ j, j < 8 → cA σ (100 + rb) j = cA τ 7 (40 * rb + j)) : Sim
      (B2 (lq3 (c_pool_L25 (nI ra) (nI rb)) σ 1 0) fun σ29 x30 =>
              if x30 = 0 then
                (B2 (c_found σ29 3) fun v115 σ116 =>
                some (v115, σ116))
              else
                (B1 (lq2 (c_pool_L69) σ29 0) fun σ72 =>
                B2 (c_cheapestWay σ72) fun v90 σ91 =>
                B2 (lq3 (c_pool_L92) σ91 0 v90) fun σ96 x97 =>
                B1 (lq2 (c_pool_L105 σ96) 0 0) fun x108 =>
                B2 (c_say σ96 x97 x108) fun v112 σ113 =>
                some (v112, σ113)))
      (BR2 (lq3 (m_pool_L19 (nI ra) (nI rb)) τ 0 0) (fun σ23 x24 =>
              B1 (lq2 (m_pool_L49) σ23 0) fun σ52 =>
              B2 (m_nextBrought σ52) fun v63 σ64 =>
              B3 (lq4 (m_pool_L65) σ64 x24 0 v63) fun σ70 x71 x72 =>
              B2 (m_ask σ70 x72 x71) fun v104 σ105 =>
              some (v104, σ105)) (fun r => some r)) Rq := by
  obtain ⟨now, hnow, n1, n2⟩ := h.now
  obtain ⟨σ1, a1, a2, a3⟩ := L25_C hra hrb hLa hLb rfl rfl
  rw [a1, B2_some]
  rcases L19_M (τ := τ) hra hrb (fun j hj => (hA j hj).symm) (fun j hj => (hB j hj).symm) with ⟨hg, τ1, b1, b2, b3⟩ | ⟨hg, τ1, b1, b2⟩
  · rw [hg, b01_t, if_neg k10, b1, BR2_l]
    have a3' := a3 hg
    generalize hf : cA σ (100 + ra) = f at *
    generalize hgg : cA σ (100 + rb) = g at *
    have h30 : ∀ i, i < 8 → nN (f i) ≤ 30 ∧ nN (g i) ≤ 30 := fun i hi => by
      have : ∀ n, i < n → g30 f g n = true → (¬ f i < 0 ∧ ¬ 30 < f i) ∧ (¬ g i < 0 ∧ ¬ 30 < g i) := by
        intro n
        induction n with
        | zero => intro h; omega
        | succ n ih =>
          intro h q
          rw [g30, Bool.and_eq_true, Bool.and_eq_true] at q
          by_cases z : i = n
          · subst z; exact ⟨of_decide_eq_true q.2.1, of_decide_eq_true q.2.2⟩
          · exact ih (by omega) q.1
      obtain ⟨z1, z2⟩ := this 8 hi hg
      exact ⟨(n30 z1).2, (n30 z2).2⟩
    obtain ⟨σ2, c1, c2, c3, c4, c5⟩ := L69p_C h a2 hnow n1
    obtain ⟨τ2, d1, d2, d3, d4, d5⟩ := L49_M h b2 hnow n2
    rw [c1, B1_some, d1, B1_some]
    -- outside 0..7 nothing is over or lacking
    let ov : Nat → Nat := fun i => if i < 8 then nN (f i) - nN (g i) else 0
    let lk : Nat → Nat := fun i => if i < 8 then nN (g i) - nN (f i) else 0
    have hov : ∀ i, i < 8 → ov i = nN (f i) - nN (g i) := fun i hi => if_pos hi
    have hlk : ∀ i, i < 8 → lk i = nN (g i) - nN (f i) := fun i hi => if_pos hi
    have ov30 : ∀ i, ov i ≤ 30 := fun i => by
      by_cases q : i < 8
      · rw [hov i q]; have := h30 i q; omega
      · rw [show ov i = 0 from if_neg q]; omega
    have lk30 : ∀ i, lk i ≤ 30 := fun i => by
      by_cases q : i < 8
      · rw [hlk i q]; have := h30 i q; omega
      · rw [show lk i = 0 from if_neg q]; omega
    have hco : ∀ i j t, i < 8 → j < 8 → co τ i now j = some t → now ≤ t ∧ t ≤ now + 28000 := fun i j t hi hj ht => (co_is h ScC.rfl ScM.rfl hi (show now ≤ 50000000 by omega) hj).2.2 t ht
    have hcM : ∀ i j w, i < 8 → j < 8 → coM τ now i j = some w → w ≤ 28000 := fun i j w hi hj hw => by
      unfold coM at hw
      cases hc : co τ i now j with
      | none => rw [hc] at hw; cases hw
      | some t =>
        rw [hc] at hw
        have := hco i j t hi hj hc
        have hw' : some (t - now) = some w := hw
        cases hw'
        omega
    let cM : Nat → Nat → Option Nat := fun i j => if i < 8 ∧ j < 8 then coM τ now i j else none
    let cC : Nat → Nat → Option Nat := fun i j => if i = j then none else cM i j
    have ecM : ∀ i j, i < 8 → j < 8 → cM i j = coM τ now i j := fun i j hi hj => if_pos ⟨hi, hj⟩
    have ecC : ∀ i j, i < 8 → j < 8 → cC i j = coC τ now i j := fun i j hi hj => by
      show (if i = j then none else cM i j) = _
      unfold coC
      by_cases q : i = j
      · rw [if_pos q, if_pos q]
      · rw [if_neg q, if_neg q, ecM i j hi hj]; rfl
    have h28M : ∀ i j w, cM i j = some w → w ≤ 28000 := fun i j w hw => by
      by_cases q : i < 8 ∧ j < 8
      · rw [ecM i j q.1 q.2] at hw; exact hcM i j w q.1 q.2 hw
      · rw [show cM i j = none from if_neg q] at hw; cases hw
    have h28C : ∀ i j w, cC i j = some w → w ≤ 28000 := fun i j w hw => by
      have hw' : (if i = j then none else cM i j) = some w := hw
      by_cases q : i = j
      · rw [if_pos q] at hw'; cases hw'
      · rw [if_neg q] at hw'; exact h28M i j w hw'
    have hd : DgP cC cM := ⟨fun i => if_pos rfl, fun i j _ _ hne => (if_neg hne).symm⟩
    have gr : ∀ c : Nat → Nat → Option Nat, (∀ i j w, c i j = some w → w ≤ 28000) → GrP c (fun _ _ => 0) ov (fun i => i < 8 ∧ 0 < ov i) (fun j => 0 < lk j) (fun _ => 0) := fun c hc => ⟨hc, fun i j _ _ q => absurd q (Nat.lt_irrefl 0), fun i j w _ _ _ => Nat.zero_le _, fun i hi q => ⟨⟨hi, q⟩, rfl⟩, fun i q q2 => by
      have q1 := q.2
      rw [hov i q.1] at q1
      have q2' : 0 < lk i := q2
      rw [hlk i q.1] at q2'
      omega⟩
    have bC : BsP 52 53 54 55 (-9) σ2 cC (fun _ _ => 0) ov lk := ⟨fun i hi => by rw [c3, hov i hi]; exact (a3' i hi).1, fun i hi => by rw [c4, hlk i hi]; exact (a3' i hi).2, fun i j hi hj => by rw [ecC i j hi hj]; exact (c5 i j hi hj).1, fun i j hi hj => (c5 i j hi hj).2⟩
    have bM : BsP 64 65 66 63 100000000 τ2 cM (fun _ _ => 0) ov lk := ⟨fun i hi => by rw [d3, hov i hi]; exact (b3 i hi).1, fun i hi => by rw [d4, hlk i hi]; exact (b3 i hi).2, fun i j hi hj => by rw [ecM i j hi hj]; exact (d5 i j hi hj).1, fun i j hi hj => (d5 i j hi hj).2⟩
    have hsm : smP (fun i => nN (g i) - nN (f i)) 8 = smP lk 8 := sm_eq (fun v hv => (hlk v hv).symm)
    have hL : smP lk 8 ≤ 240 := by
      have := sm_le (f := lk) (B := 30) lk30 8
      omega
    obtain ⟨t, t', σ3, τ3, y1, y2, y3⟩ := PI.mk (σ0 := σ) (τ0 := τ) (L0 := smP lk 8) (k := 0) (cst := 0) (by omega) (gr cC h28C) (gr cM h28M) (fun _ _ => Nat.le_refl _) ov30 lk30 (fun j hj q => q) bC bM c2 d2 (by omega) (by omega)
    rw [y1, B2_some, y2, B2_some, hsm]
    obtain ⟨e, e', z1, z2, z3, z4, z5, lk2, z6, z7⟩ := pool_loop hd hL y3
    obtain ⟨σ4, C⟩ := e
    obtain ⟨τ4, cn, C'⟩ := e'
    have z1' : lq3 c_pool_L92 σ3 0 t = some (σ4, C) := z1
    have z2' : lq4 m_pool_L65 τ3 (nI (smP lk 8)) 0 t' = some (τ4, cn, C') := z2
    dsimp only at z3 z4 z5 z6 z7
    rw [z1', B2_some, z2', B3_some, L105_C z6, B1_some]
    refine ⟨_, _, rfl, rfl, z7.symm, ?_⟩
    exact (h.scr z3 z4).say z5
  · rw [hg, b01_f, if_pos k00, b1, BR2_r, show c_found σ1 3 = _ from found_is σ1 (f := 3) (by decide) rfl, B2_some]
    exact ⟨_, _, rfl, rfl, rfl, (h.scr a2 b2).found 3⟩
theorem s_pool (h : R σ τ) (a b : Int32) : Sim (c_pool σ a b) (m_pool τ a b) Rq := by
  unfold c_pool m_pool
  rcases row_cases a with ⟨ra, hra, rfl, e1, e2⟩ | ⟨e1, e2⟩
  · rw [e1, e2, B1_some, B1_some, if_neg k10, if_neg k10]
    rcases row_cases b with ⟨rb, hrb, rfl, e3, e4⟩ | ⟨e3, e4⟩
    · rw [e3, e4, B1_some, B1_some, if_neg k10, if_neg k10, ixA_is hra (by decide), B1_some, rdA_nI hra (by decide), B1_some]
      rcases h.rw6 hra with ⟨g1, g2⟩ | ⟨m, hm, g2, g3, g4⟩
      · rw [g1, if_neg kSn, g2, if_pos k9l]
        exact found_meets2 h (f := 1) (by decide) rfl
      · rw [if_pos (show (cL σ (100 + ra)).isSome = true by rw [g2]; rfl), g3, if_neg (nI_pos (by omega)), ixA_is hrb (by decide), B1_some, rdA_nI hrb (by decide), B1_some]
        rcases h.rw6 hrb with ⟨q1, q2⟩ | ⟨m', hm', q2, q3, q4⟩
        · rw [q1, if_neg kSn, q2, if_neg k90]
          exact found_meets2 h (f := 1) (by decide) rfl
        · rw [if_pos (show (cL σ (100 + rb)).isSome = true by rw [q2]; rfl), q3, if_pos (nI_pos' (by omega)), ixD_is hra (by decide) g2, B1_some, g2, B1_some, B1_some]
          by_cases h8 : m = 8
          · subst h8
            rw [if_pos (show nI 8 = 8 from rfl), if_pos (show nI 8 = 8 from rfl), ixD_is hrb (by decide) q2, B1_some, q2, B1_some, B1_some]
            by_cases h8' : m' = 8
            · subst h8'
              rw [if_pos (show nI 8 = 8 from rfl), if_pos (show nI 8 = 8 from rfl)]
              exact pool_tail h hra hrb g2 q2 g4 q4
            · have hne : ¬ nI m' = 8 := fun g => h8' ((nI_eq (b := 8) (by omega) (by decide)).mp g)
              rw [if_neg hne, if_neg hne]
              exact found_meets2 h (f := 5) (by decide) rfl
          · have hne : ¬ nI m = 8 := fun g => h8 ((nI_eq (b := 8) (by omega) (by decide)).mp g)
            rw [if_neg hne, if_neg hne]
            exact found_meets2 h (f := 5) (by decide) rfl
    · rw [e3, e4, B1_some, B1_some, if_pos k00, if_pos k00]
      exact h.same _
  · rw [e1, e2, B1_some, B1_some, if_pos k00, if_pos k00]
    exact h.same _
end Pool6
