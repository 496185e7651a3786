/-! plain law: canBe, detention -/
section CanBe
variable {σ σ' τ τ' : St}
/-- yards that can be come to by w -/
def cbs (D : Nat → Option Nat) (w : Nat) : Nat → Nat
  | 0 => 0
  | k + 1 => cbs D w k ||| (match D k with | none => 0 | some t => if t ≤ w then 2 ^ k else 0)
theorem cbs_lt (D : Nat → Option Nat) (w : Nat) : ∀ k, k ≤ 8 → cbs D w k < 256
  | 0, _ => by show 0 < 256; decide
  | k + 1, hk => by
    rw [cbs]
    refine Nat.or_lt_two_pow (n := 8) (cbs_lt D w k (by omega)) ?_
    cases D k with
    | none => show 0 < 2 ^ 8; decide
    | some t =>
      dsimp only
      by_cases g : t ≤ w
      · rw [if_pos g]; exact Nat.pow_lt_pow_right (by decide) (by omega)
      · rw [if_neg g]; decide
theorem last_is {w n N q : Nat} (hw : Rw w n N q σ τ) {t : Nat} (ht : t < n) (hl : cA τ 20 t = 1) : ∃ f, f < N ∧ c_lastSeen σ (nI t) = some (nI f) ∧ lq2 (m_yardsOf_L1 τ (nI t)) (-9) 0 = some (nI f) ∧ isN (cA τ 37 f) w ∧ ∃ y, y < 8 ∧ cA τ 39 f = nI y := by
  have hN := hw.1.2.2.1
  have hB := hw.2.2.2.2.2.2.1
  have h5 : ∃ e, e < N ∧ cA τ 35 e = nI t ∧ cA τ 36 e = nI 2 ∧ ∀ e', e' < N → e < e' → cA τ 35 e' = nI t → cA τ 36 e' ≠ nI 0 ∧ cA τ 36 e' ≠ nI 1 ∧ cA τ 36 e' ≠ nI 2 := by
    rcases hB.2.2.2.2 t ht with g | ⟨-, g⟩
    · rw [hl] at g
      exact absurd g (by decide)
    · exact g
  obtain ⟨e, he, htr, hso, hno⟩ := h5
  have l2 : lst (pq τ (nI t) 2 2) N = some e := lst_eq he (decide_eq_true ⟨htr, Or.inl hso⟩) (fun k k1 k2 => decide_eq_false (fun g => by
    rcases g.2 with g2 | g2 <;> exact (hno k k2 k1 g.1).2.2 g2))
  have hf : ∃ f, lst (pq τ (nI t) 0 1) e = some f := by
    obtain ⟨e0, g1, g2, g3, g4⟩ := hB.2.1 t ht
    have q3 : e0 ≤ e := Nat.le_of_not_lt fun g => g4 e g htr
    have q4 : e0 ≠ e := fun g => by
      subst g
      rw [g3] at hso
      exact absurd hso (by decide)
    obtain ⟨f, k1, -⟩ := lst_ex (P := pq τ (nI t) 0 1) (show e0 < e by omega) (decide_eq_true ⟨g2, Or.inl g3⟩)
    exact ⟨f, k1⟩
  obtain ⟨f, hf⟩ := hf
  obtain ⟨hf1, hf2, hf3⟩ := lst_in hf
  obtain ⟨ff1, ff2⟩ := of_decide_eq_true (show decide (cA τ 35 f = nI t ∧ (cA τ 36 f = 0 ∨ cA τ 36 f = 1)) = true from hf2)
  have fso : ¬ (2 : Int32) ≤ cA τ 36 f := by
    rcases ff2 with g | g <;> rw [g] <;> decide
  have lP : lst (fun k => decide (cA τ 35 k = nI t ∧ ¬ (2 : Int32) ≤ cA τ 36 k)) N = some f := lst_eq (by omega) (decide_eq_true ⟨ff1, fso⟩) (fun k k1 k2 => decide_eq_false (fun g => by
    obtain ⟨g1, g2⟩ := g
    have h01 : cA τ 36 k = 0 ∨ cA τ 36 k = 1 := by
      rcases hnd_in hw k2 g2 with ⟨g3, -⟩ | ⟨g3, -⟩
      · exact Or.inl g3
      · exact Or.inr g3
    by_cases q1 : k < e
    · have := hf3 k k1 q1
      rw [show pq τ (nI t) 0 1 k = true from decide_eq_true ⟨g1, h01⟩] at this
      cases this
    · by_cases q2 : k = e
      · subst q2
        rw [hso] at g2
        exact g2 (Int32.le_refl _)
      · have := hno k k2 (by omega) g1
        rcases h01 with g3 | g3
        · exact this.1 g3
        · exact this.2.1 g3))
  obtain ⟨-, hmi, s, hs, es, z0, z1⟩ := hB.1 f (by omega)
  refine ⟨f, by omega, ?_, ?_, hmi, ?_⟩
  · unfold c_lastSeen
    rw [hw.c22, ahead_is hw.2.1 hN, l2, B1_some, show e9 (some e) = nI e from rfl, ahead_is hw.2.1 (by omega), hf, B1_some]
    rfl
  · have key : ∃ r, lq2 (m_yardsOf_L1 τ (nI t)) (-9) 0 = some r ∧ r = e9 (lst (fun k => decide (cA τ 35 k = nI t ∧ ¬ (2 : Int32) ≤ cA τ 36 k)) N) := by
      unfold lq2
      refine lp_forI N (fun k (p : Int32 × Int32) => k ≤ N ∧ p.2 = nI k ∧ p.1 = e9 (lst (fun k => decide (cA τ 35 k = nI t ∧ ¬ (2 : Int32) ≤ cA τ 36 k)) k)) _ ?_ (i := 0) ⟨by omega, nI_0.symm, rfl⟩
      rintro k ⟨x, y⟩ ⟨hk, hy, hx⟩
      dsimp only at hy hx
      subst hy
      by_cases hkN : k = N
      · subst hkN
        refine Or.inr ⟨x, ?_, hx⟩
        show m_yardsOf_L1 τ (nI t) x (nI k) = _
        unfold m_yardsOf_L1
        rw [hw.m34, if_pos (Int32.le_refl _)]
      · have hk2 : k < N := by omega
        have hk60 : k < 60 := by omega
        refine Or.inl ⟨hk2, (e9 (lst (fun k => decide (cA τ 35 k = nI t ∧ ¬ (2 : Int32) ≤ cA τ 36 k)) (k + 1)), nI k + 1), ?_, by omega, nI_1 k, rfl⟩
        show m_yardsOf_L1 τ (nI t) x (nI k) = _
        unfold m_yardsOf_L1
        rw [hw.m34, if_neg (nI_ge hk2 (by omega)), rdA_nI hk60 (by decide), B1_some, rdA_nI hk60 (by decide), B1_some, lst]
        by_cases q1 : cA τ 35 k = nI t
        · rw [if_pos q1]
          by_cases q2 : (2 : Int32) ≤ cA τ 36 k
          · rw [if_pos q2, B1_some, if_neg (fun g => (of_decide_eq_true g).2 q2), hx]
          · rw [if_neg q2, B1_some, if_pos (decide_eq_true ⟨q1, q2⟩)]
            rfl
        · rw [if_neg q1, B1_some, if_neg (fun g => q1 (of_decide_eq_true g).1), hx]
    obtain ⟨r, k1, rfl⟩ := key
    rw [k1, lP]
    rfl
  · rcases ff2 with g | g
    · rw [es] at g
      have : s = 0 := (nI_eq (by omega) (by decide)).mp g
      obtain ⟨y, hy, -, g2⟩ := z0 this
      exact ⟨y, hy, g2⟩
    · rw [es] at g
      have : s = 1 := (nI_eq (by omega) (by decide)).mp g
      obtain ⟨-, y, hy, g2⟩ := z1 this
      exact ⟨y, hy, g2⟩
theorem canOf_is {w n N q : Nat} (hw : Rw w n N q σ τ) {t : Nat} (ht : t < n) (hl : cA τ 20 t = 1) : ∃ v σ' τ', v < 256 ∧ c_canBeOf σ (nI t) = some (nI v, σ') ∧ m_yardsOf τ (nI t) = some (nI v, τ') ∧ R σ' τ' ∧ ScC σ σ' ∧ ScM τ τ' := by
  have hN := hw.1.2.2.1
  have hww := hw.1.1
  have h := hw.r
  obtain ⟨f, hf, k1, k2, ⟨s, hs, es⟩, y, hy, ey⟩ := last_is hw ht hl
  obtain ⟨D, f1, g1, j1, j2, j3, j4, j5⟩ := h.lead hy (s := s) (by omega)
  have c11 : cI (sAr (sAr σ 16 f1) 17 g1) 11 = nI w := (h.eq.I 11 5 (by decide)).trans hw.m5
  have r16 : ∀ k, k < 8 → rdA 8 (sAr (sAr σ 16 f1) 17 g1) 16 (nI k) = some (e9 (D k)) := fun k hk => by
    rw [rdA_nI hk (by decide), cA_sAr_ne _ (by decide), cA_sAr_at, j2 k hk]
  have cl : ∃ r, lq2 (c_canBeOf_L9 (sAr (sAr σ 16 f1) 17 g1)) 0 0 = some r ∧ r = nI (cbs D w 8) := by
    unfold lq2
    refine lp_forI 8 (fun k (p : Int32 × Int32) => k ≤ 8 ∧ p.2 = nI k ∧ p.1 = nI (cbs D w k)) _ ?_ (i := 0) ⟨by omega, nI_0.symm, nI_0.symm⟩
    rintro k ⟨x, z⟩ ⟨hk, hz, hx⟩
    dsimp only at hz hx
    subst hz hx
    by_cases hk8 : k = 8
    · subst hk8
      exact Or.inr ⟨_, by show c_canBeOf_L9 _ _ (nI 8) = _; unfold c_canBeOf_L9; rw [if_pos (by decide)], rfl⟩
    · have hk2 : k < 8 := by omega
      refine Or.inl ⟨hk2, (nI (cbs D w (k + 1)), nI k + 1), ?_, by omega, nI_1 k, rfl⟩
      show c_canBeOf_L9 _ _ (nI k) = _
      unfold c_canBeOf_L9
      rw [if_neg (ge8 hk2), r16 k hk2, B1_some, B1_some, c11, cbs, ← or_nI]
      cases hD : D k with
      | none =>
        rw [if_pos (show e9 none = -9 from rfl), B1_some]
        rfl
      | some u =>
        have hu := (j3 k u hk2 hD).2
        have n9 : ¬ e9 (some u) = -9 := nI_n9 (by omega)
        rw [if_neg n9, show e9 (some u) = nI u from rfl]
        dsimp only
        by_cases g : u ≤ w
        · rw [if_neg (Int32.not_lt.mpr (nI_le g (by omega))), B1_some, if_pos g, shl_all k (by omega)]
        · rw [if_pos (nI_lt (show w < u by omega) (by omega)), B1_some, if_neg g]
          rfl
  have ml : ∃ r, lq3 (m_yardsOf_L11 (nI f)) τ 0 0 = some r ∧ ∃ f', r = (sAr τ 15 f', nI (cbs D w 8)) := by
    unfold lq3
    refine lp_forI 8 (fun k (p : St × Int32 × Int32) => k ≤ 8 ∧ p.2.2 = nI k ∧ p.2.1 = nI (cbs D w k) ∧ ∃ f', p.1 = sAr τ 15 f') _ ?_ (i := 0) ⟨by omega, nI_0.symm, nI_0.symm, _, (sAr_self τ 15).symm⟩
    rintro k ⟨τ1, x, z⟩ ⟨hk, hz, hx, f', hτ⟩
    dsimp only at hz hx hτ
    subst hz hx hτ
    by_cases hk8 : k = 8
    · subst hk8
      exact Or.inr ⟨_, by show m_yardsOf_L11 _ _ _ (nI 8) = _; unfold m_yardsOf_L11; rw [if_pos (by decide)], f', rfl⟩
    · have hk2 : k < 8 := by omega
      have hwy : wyAllM (sAr τ 15 f') := h.ways.2
      have hE : IsEA (wyE (cA (sAr τ 15 f') 11)) (wyTm (sAr τ 15 f')) y s D := j4
      obtain ⟨f2, hc⟩ := comesTo_is hwy hy (by omega) hE hk2
      rw [sAr_sAr] at hc
      refine Or.inl ⟨hk2, (sAr τ 15 f2, nI (cbs D w (k + 1)), nI k + 1), ?_, by omega, nI_1 k, rfl, f2, rfl⟩
      show m_yardsOf_L11 _ _ _ (nI k) = _
      unfold m_yardsOf_L11
      rw [if_neg (ge8 hk2), rdA_nI (by omega) (by decide), B1_some, rdA_nI (by omega) (by decide), B1_some, cA_sAr_ne _ (by decide), cA_sAr_ne _ (by decide), ey, es, hc, B2_some, cbs, ← or_nI, show cI (sAr τ 15 f2) 5 = nI w from hw.m5]
      cases hD : D k with
      | none =>
        rw [if_pos (show nI w < eM none from nI_lt (b := 100000000) (by omega) (by decide)), B1_some]
        rfl
      | some u =>
        have hu := (j3 k u hk2 hD).2
        rw [show eM (some u) = nI u from rfl]
        dsimp only
        by_cases g : u ≤ w
        · rw [if_neg (Int32.not_lt.mpr (nI_le g (by omega))), B1_some, if_pos g, shl_all k (by omega)]
        · rw [if_pos (nI_lt (show w < u by omega) (by omega)), B1_some, if_neg g]
          rfl
  obtain ⟨r1, l1, rfl⟩ := cl
  obtain ⟨r2, l2, f', rfl⟩ := ml
  refine ⟨cbs D w 8, _, _, cbs_lt D w 8 (by omega), ?_, ?_, (h.lead16 (f := f1) (g := g1)).come15 (f := f'), (ScC.rfl.wAr (by decide)).wAr (by decide), ScM.rfl.wAr (by decide)⟩
  · unfold c_canBeOf
    rw [k1, B1_some, rdA_nI (by omega) (by decide), B1_some, rdA_nI (by omega) (by decide), B1_some, h.eq.A 27 39 (by decide), h.eq.A 25 37 (by decide), ey, es, j1, B1_some, l1, B1_some]
  · unfold m_yardsOf
    rw [k2, B1_some, l2, B2_some]
theorem s_canBe (h : R σ τ) (a : Int32) : Sim (c_canBe σ a) (m_canBe τ a) Rq := by
  obtain ⟨w, n, N, q, hw⟩ := h.rw
  have hn := hw.1.2.1
  unfold c_canBe m_canBe
  rcases hw.tcase a with ⟨t, ht, rfl, e3, e4, hT⟩ | ⟨e3, e4⟩
  · obtain ⟨kd, t1, t2, t3, t4, t5, t6, t7, t8⟩ := hT
    have f4 := t7 (4, 20) (by decide) (okT_lo (by decide))
    have f4' : cA σ (120 + t) 4 = cA τ 20 t := f4
    rw [e3, e4, B1_some, B1_some, if_neg k10, if_neg k10, ixD_is (by omega) (by decide) t2, B1_some, rdT_is t2 (okT_lo (by decide)), B1_some, rdA_nI (by omega) (by decide), B1_some, f4']
    by_cases hl : cA τ 20 t = 0
    · rw [if_pos hl, if_pos hl, B2_some, B2_some]
      exact h.same _
    · have hl1 : cA τ 20 t = 1 := by
        rcases hw.2.2.2.2.2.2.1.2.2.2.2 t ht with g | ⟨g, -⟩
        · exact absurd g hl
        · exact g
      obtain ⟨v, σ', τ', g1, g2, g3, g4, -, -⟩ := canOf_is hw ht hl1
      rw [if_neg hl, if_neg hl, g2, g3, B2_some, B2_some, B2_some, B2_some]
      exact g4.same _
  · rw [e3, e4, B1_some, B1_some, if_pos k00, if_pos k00, B2_some, B2_some]
    exact h.same _
end CanBe
