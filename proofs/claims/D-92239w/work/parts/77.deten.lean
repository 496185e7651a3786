/-! plain law: detention -/
section Deten
variable {σ σ' τ τ' : St}
/-- when a trailer left, from e on, m entries -/
def lw (τ : St) (t : Int32) : Nat → Nat → Int32
  | 0, _ => cI τ 5
  | m + 1, e => if cA τ 35 e = t ∧ (cA τ 36 e = 1 ∨ cA τ 36 e = 2) then cA τ 37 e else lw τ t m (e + 1)
theorem leftAt_is {w n N q : Nat} (hw : Rw w n N q σ τ) {e : Nat} (he : e < N) {t : Int32} (ht : cA τ 35 e = t) : c_leftAt σ (nI e) = some (lw τ t (N - (e + 1)) (e + 1)) := by
  have hN := hw.1.2.2.1
  have hq := hw.2.1
  have key : ∃ r, lq1 (c_leftAt_L1 σ (nI e)) (nI (e + 1)) = some r ∧ ((r = Sum.inl () ∧ lw τ t (N - (e + 1)) (e + 1) = cI τ 5) ∨ r = Sum.inr (lw τ t (N - (e + 1)) (e + 1))) := by
    unfold lq1
    refine lp_forI N (fun k (p : Int32) => k ≤ N ∧ p = nI k ∧ lw τ t (N - k) k = lw τ t (N - (e + 1)) (e + 1)) _ ?_ (i := e + 1) ⟨by omega, rfl, rfl⟩
    rintro k x ⟨hk, rfl, hx⟩
    by_cases hkN : k = N
    · subst hkN
      refine Or.inr ⟨Sum.inl (), ?_, Or.inl ⟨rfl, ?_⟩⟩
      · show c_leftAt_L1 σ (nI e) (nI k) = _
        unfold c_leftAt_L1
        rw [hw.c22, if_pos (Int32.le_refl _)]
      · rw [← hx, Nat.sub_self]
        rfl
    · have hk2 : k < N := by omega
      have hk60 : k < 60 := by omega
      have he60 : e < 60 := by omega
      rw [show N - k = (N - (k + 1)) + 1 by omega, lw] at hx
      have hst : c_leftAt_L1 σ (nI e) (nI k) = (if cA τ 35 k = t then (if cA τ 36 k = 1 then some (Sum.inr (Sum.inr (cA τ 37 k))) else (if cA τ 36 k = 2 then some (Sum.inr (Sum.inr (cA τ 37 k))) else some (Sum.inl (nI k + 1)))) else some (Sum.inl (nI k + 1))) := by
        unfold c_leftAt_L1
        rw [hw.c22, if_neg (nI_ge hk2 (by omega)), rdA_nI hk60 (by decide), B1_some, rdA_nI he60 (by decide), B1_some, rdA_nI hk60 (by decide), B1_some, B1_some, rdA_nI hk60 (by decide), B1_some, hq.A 23 35 (by decide), hq.A 24 36 (by decide), hq.A 25 37 (by decide), ht]
      by_cases q1 : cA τ 35 k = t
      · by_cases q2 : cA τ 36 k = 1
        · rw [if_pos ⟨q1, Or.inl q2⟩] at hx
          exact Or.inr ⟨Sum.inr (cA τ 37 k), by rw [hst, if_pos q1, if_pos q2], Or.inr (by rw [hx])⟩
        · by_cases q3 : cA τ 36 k = 2
          · rw [if_pos ⟨q1, Or.inr q3⟩] at hx
            exact Or.inr ⟨Sum.inr (cA τ 37 k), by rw [hst, if_pos q1, if_neg q2, if_pos q3], Or.inr (by rw [hx])⟩
          · rw [if_neg (fun g => by rcases g.2 with g | g; exact q2 g; exact q3 g)] at hx
            exact Or.inl ⟨hk2, nI k + 1, by rw [hst, if_pos q1, if_neg q2, if_neg q3], by omega, nI_1 k, hx⟩
      · rw [if_neg (fun g => q1 g.1)] at hx
        exact Or.inl ⟨hk2, nI k + 1, by rw [hst, if_neg q1], by omega, nI_1 k, hx⟩
  obtain ⟨r, k1, k2⟩ := key
  unfold c_leftAt
  rw [nI_1, k1]
  rcases k2 with ⟨rfl, g⟩ | rfl
  · rw [BR1_l, g, hq.I 11 5 (by decide)]
  · rw [BR1_r]
theorem leftM_is {N : Nat} (hN : N ≤ 60) (t : Int32) {e : Nat} (he : e < N) : lq2 (m_detention_L16 t τ (nI e)) (cI τ 5) (nI N - 1) = some (lw τ t (N - (e + 1)) (e + 1)) := by
  have key : ∃ r, lq2 (m_detention_L16 t τ (nI e)) (cI τ 5) (nI N - 1) = some r ∧ r = lw τ t (N - (e + 1)) (e + 1) := by
    unfold lq2
    refine lp_forI (N - (e + 1)) (fun i (p : Int32 × Int32) => i ≤ N - (e + 1) ∧ p.2 = nI (N - 1 - i) ∧ p.1 = lw τ t i (N - i)) _ ?_ (i := 0) ⟨by omega, ?_, rfl⟩
    · rintro i ⟨x, z⟩ ⟨hi, hz, hx⟩
      dsimp only at hz hx
      subst hz hx
      by_cases hie : i = N - (e + 1)
      · subst hie
        refine Or.inr ⟨lw τ t (N - (e + 1)) (N - (N - (e + 1))), ?_, by rw [show N - (N - (e + 1)) = e + 1 by omega]⟩
        show m_detention_L16 t τ (nI e) _ (nI (N - 1 - (N - (e + 1)))) = _
        unfold m_detention_L16
        rw [show N - 1 - (N - (e + 1)) = e by omega, if_pos (Int32.le_refl _)]
      · have hk : N - 1 - i < 60 := by omega
        refine Or.inl ⟨by omega, (lw τ t (i + 1) (N - (i + 1)), nI (N - 1 - i) + -1), ?_, by omega, ?_, rfl⟩
        · show m_detention_L16 t τ (nI e) (lw τ t i (N - i)) (nI (N - 1 - i)) = _
          unfold m_detention_L16
          rw [if_neg (nI_ge (by omega) (by omega)), rdA_nI hk (by decide), B1_some, rdA_nI hk (by decide), B1_some, rdA_nI hk (by decide), B1_some, B1_some, lw, show N - (i + 1) = N - 1 - i by omega, show N - 1 - i + 1 = N - i by omega]
          by_cases q1 : cA τ 35 (N - 1 - i) = t
          · rw [if_pos q1]
            by_cases q2 : cA τ 36 (N - 1 - i) = 1
            · rw [if_pos q2, if_pos ⟨q1, Or.inl q2⟩, B1_some]
            · rw [if_neg q2]
              by_cases q3 : cA τ 36 (N - 1 - i) = 2
              · rw [if_pos q3, if_pos ⟨q1, Or.inr q3⟩, B1_some]
              · rw [if_neg q3, if_neg (fun g => by rcases g.2 with g | g; exact q2 g; exact q3 g), B1_some]
          · rw [if_neg q1, if_neg (fun g => q1 g.1), B1_some]
        · dsimp only
          rw [← Int32.sub_eq_add_neg, show N - 1 - i = (N - 1 - (i + 1)) + 1 by omega, pd_s]
    · show nI N - 1 = nI (N - 1 - 0)
      rw [show N = (N - 1) + 1 by omega, pd_s]
      rfl
  obtain ⟨r, k1, rfl⟩ := key
  exact k1
theorem lw_J (t : Int32) (k : Nat) (v : Int64) : ∀ m e, lw (sJ τ k v) t m e = lw τ t m e
  | 0, _ => rfl
  | m + 1, e => by
    rw [lw, lw, lw_J t k v m (e + 1)]
    rfl
theorem s_detention (h : R σ τ) (a : Int32) : Sim (c_detention σ a) (m_detention τ a) Rq := by
  obtain ⟨w, n, N, q, hw⟩ := h.rw
  have hn := hw.1.2.1
  have hN := hw.1.2.2.1
  unfold c_detention m_detention
  rcases hw.tcase a with ⟨t, ht, rfl, e3, e4, hT⟩ | ⟨e3, e4⟩
  · rw [e3, e4, B1_some, B1_some, if_neg k10, if_neg k10]
    refine Sim.b2 (P := fun x y => y.2 = x.2 ∧ y.1 = sJ τ 45 x.1) ?_ ?_
    · unfold lq3
      refine lp_sim N (fun k (p : Int64 × Int32 × Int32) (p' : St × Int32 × Int32) => k ≤ N ∧ p.2.2 = nI k ∧ p' = (sJ τ 45 p.1, p.2.1, nI k)) _ ?_ (i := 0) ⟨by omega, nI_0.symm, rfl⟩
      rintro k ⟨s, x, y⟩ p' ⟨hk, hy, rfl⟩
      dsimp only at hy
      subst hy
      dsimp only
      by_cases hkN : k = N
      · subst hkN
        refine Or.inr ⟨(s, x), (sJ τ 45 s, x), ?_, ?_, rfl, rfl⟩
        · show c_detention_L3 σ (nI t) s x (nI k) = _
          unfold c_detention_L3
          rw [hw.c22, if_pos (Int32.le_refl _)]
        · show m_detention_L3 (nI t) (sJ τ 45 s) x (nI k) = _
          unfold m_detention_L3
          rw [show cI (sJ τ 45 s) 34 = nI k from hw.m34, if_pos (Int32.le_refl _)]
      · have hk2 : k < N := by omega
        have hk60 : k < 60 := by omega
        have stay : Sim (c_detention_L3 σ (nI t) s x (nI k)) (m_detention_L3 (nI t) (sJ τ 45 s) x (nI k)) (fun a b => ∃ s' x', a = Sum.inl (s', x', nI k + 1) ∧ b = Sum.inl (sJ τ 45 s', x', nI k + 1)) := by
          have r1 : rdA 60 σ 23 (nI k) = some (cA τ 35 k) := by rw [rdA_nI hk60 (by decide), h.eq.A 23 35 (by decide)]
          have r2 : rdA 60 σ 24 (nI k) = some (cA τ 36 k) := by rw [rdA_nI hk60 (by decide), h.eq.A 24 36 (by decide)]
          have r3 : rdA 60 σ 25 (nI k) = some (cA τ 37 k) := by rw [rdA_nI hk60 (by decide), h.eq.A 25 37 (by decide)]
          have r4 : rdA 60 σ 26 (nI k) = some (cA τ 38 k) := by rw [rdA_nI hk60 (by decide), h.eq.A 26 38 (by decide)]
          have m1 : rdA 60 (sJ τ 45 s) 35 (nI k) = some (cA τ 35 k) := rdA_nI hk60 (by decide)
          have m2 : rdA 60 (sJ τ 45 s) 36 (nI k) = some (cA τ 36 k) := rdA_nI hk60 (by decide)
          have m3 : rdA 60 (sJ τ 45 s) 37 (nI k) = some (cA τ 37 k) := rdA_nI hk60 (by decide)
          have m4 : rdA 60 (sJ τ 45 s) 38 (nI k) = some (cA τ 38 k) := rdA_nI hk60 (by decide)
          have c1 : ¬ cI σ 22 ≤ nI k := by rw [hw.c22]; exact nI_ge hk2 (by omega)
          have c2 : ¬ cI (sJ τ 45 s) 34 ≤ nI k := by
            rw [show cI (sJ τ 45 s) 34 = nI N from hw.m34]; exact nI_ge hk2 (by omega)
          unfold c_detention_L3 m_detention_L3
          rw [if_neg c1, if_neg c2, r1, m1, B1_some, B1_some]
          by_cases q1 : cA τ 35 k = nI t
          · rw [if_pos q1, if_pos q1, r2, m2, B1_some, B1_some]
            by_cases q2 : cA τ 36 k = 0
            · have hB := hw.2.2.2.2.2.2.1
              obtain ⟨-, -, s0, hs0, es, z0, -⟩ := hB.1 k hk2
              rw [es] at q2
              obtain ⟨y, hy, ey, -⟩ := z0 ((nI_eq (by omega) (by decide)).mp q2)
              obtain ⟨v0, f1, f2⟩ := force_is h (wh := 0) (by decide) (a2 := cA τ 38 k) (yd := y) (fun _ => ⟨hy, ey⟩) (cA τ 37 k / 1440) (cA τ 37 k / 1440)
              obtain ⟨v1, f3, f4⟩ := force_is h (wh := 1) (by decide) (a2 := cA τ 38 k) (yd := y) (fun _ => ⟨hy, ey⟩) (cA τ 37 k / 1440) (cA τ 37 k / 1440)
              have f1' : c_forceOf σ 0 (cA τ 38 k) (cA τ 37 k / 1440) (cA τ 37 k / 1440) = some v0 := f1
              have f3' : c_forceOf σ 1 (cA τ 38 k) (cA τ 37 k / 1440) (cA τ 37 k / 1440) = some v1 := f3
              have f2' : m_inForce (sJ τ 45 s) 0 (cA τ 38 k) (cA τ 37 k / 1440) (cA τ 37 k / 1440) = some v0 := f2
              have f4' : m_inForce (sJ τ 45 s) 1 (cA τ 38 k) (cA τ 37 k / 1440) (cA τ 37 k / 1440) = some v1 := f4
              have hL := leftAt_is hw hk2 q1
              have hM : lq2 (m_detention_L16 (nI t) (sJ τ 45 s) (nI k)) (cI (sJ τ 45 s) 5) (nI N - 1) = some (lw τ (nI t) (N - (k + 1)) (k + 1)) := by
                rw [leftM_is hN (nI t) hk2, lw_J]
              have hd : m_day (cA τ 37 k) = some (cA τ 37 k / 1440) := rfl
              rw [es, if_pos q2, if_pos q2, r3, B1_some, hL, B1_some, B1_some, r4, B1_some, f1', B1_some, B1_some, f3', B1_some, show cI (sJ τ 45 s) 34 = nI N from hw.m34, hM, B1_some, m3, B1_some, hd, B1_some, B1_some, m4, B1_some, f2', B1_some, B1_some, f4', B1_some]
              generalize lw τ (nI t) (N - (k + 1)) (k + 1) = L
              by_cases q3 : L - cA τ 37 k - v0 ≤ 0
              · rw [if_pos q3, if_pos q3, B2_some, B2_some]
                exact ⟨_, _, rfl, rfl, _, _, rfl, rfl⟩
              · rw [if_neg q3, if_neg q3, B2_some, B2_some]
                refine ⟨_, _, rfl, rfl, _, _, rfl, ?_⟩
                rw [show cJ (sJ τ 45 s) 45 = s from rfl, sJ_sJ]
            · rw [if_neg q2, if_neg q2, B2_some, B2_some]
              exact ⟨_, _, rfl, rfl, _, _, rfl, rfl⟩
          · rw [if_neg q1, if_neg q1, B2_some, B2_some]
            exact ⟨_, _, rfl, rfl, _, _, rfl, rfl⟩
        obtain ⟨a, b, g1, g2, s', x', rfl, rfl⟩ := stay
        exact Or.inl ⟨hk2, _, _, g1, g2, by omega, nI_1 k, by rw [nI_1]⟩
    · rintro s x σ2 x2 ⟨g1, g2⟩
      dsimp only at g1 g2
      subst g1 g2
      exact ⟨_, _, rfl, rfl, rfl, h.chg (Req.wJ h.eq (by decide) rfl) (fun k hk => rfl) (fun k => rfl) (fun k hk => rfl) (fun k hk => rfl)⟩
  · rw [e3, e4, B1_some, B1_some, if_pos k00, if_pos k00]
    exact h.same _
end Deten
