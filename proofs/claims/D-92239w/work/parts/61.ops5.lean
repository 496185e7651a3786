/-! plain law: seal, load, unload, slide, trailer -/
section Ops5
variable {σ σ' τ τ' : St} {w n N q : Nat}
theorem s_seal (h : R σ τ) (a b : Int32) : Sim (c_seal σ a b) (m_seal τ a b) Rq := by
  obtain ⟨w, n, N, q, hw⟩ := h.rw
  have hn := hw.1.2.1
  unfold c_seal m_seal
  rcases hw.tcase a with ⟨t, ht, rfl, e3, e4, hT⟩ | ⟨e3, e4⟩
  · obtain ⟨kd, hkd, hL, h17, -, -, -, hF, -⟩ := hT
    have ht12 : t < 12 := by omega
    rw [e3, e4, B1_some, B1_some, if_neg k10, if_neg k10, m_in_c]
    rcases in_cases b 3 5 with ⟨b1, b2, e5⟩ | ⟨-, e5⟩
    · have hb : ∃ s, (s = 3 ∨ s = 4 ∨ s = 5) ∧ b = nI s := by
        obtain ⟨j, hj, rfl⟩ := nI_of2 (M := 5) (n := 5) (by decide) (fun q => b1 (by
          rw [i32_lt] at q ⊢
          have e0 : (0 : Int32).toInt = 0 := by decide
          have e1 : (3 : Int32).toInt = 3 := by decide
          omega)) (Int32.not_lt.mp b2)
        rw [i32_lt, nI_toInt (by omega)] at b1
        have e1 : (3 : Int32).toInt = 3 := by decide
        exact ⟨j, by omega, rfl⟩
      obtain ⟨s, hs, rfl⟩ := hb
      have f4 := hF (4, 20) (by decide) (okT_lo (by decide))
      have f5 := hF (5, 26) (by decide) (okT_lo (by decide))
      dsimp only at f4 f5
      rw [e5, B1_some, B1_some, if_neg k10, if_neg k10, ixD_is ht12 (by decide) hL, B1_some]
      simp only [rdA_nI ht12 l12, rdT_is hL (okT_lo (show 4 < 8 by decide)), rdT_is hL (okT_lo (show 5 < 8 by decide)), B1_some, f4, f5, hw.c22, hw.m34]
      by_cases hc : cA τ 20 t = 0
      · rw [if_pos hc, if_pos hc]
        have hse := hw.2.2.2.2.2.2.1.2.2.2.1 t ht
        have x3 : (if nI s = 3 then (some 1 : Option Int32) else some 0) = some (if s = 3 then 1 else 0) := by rcases hs with rfl | rfl | rfl <;> decide
        have x5 : (if nI s = 5 then (some 0 : Option Int32) else some 1) = some (if s = 5 then 0 else 1) := by rcases hs with rfl | rfl | rfl <;> decide
        simp only [x3, x5, B1_some]
        by_cases hv : cA τ 26 t = (if s = 3 then 1 else 0)
        · rw [if_pos hv, if_pos hv]
          exact h.same _
        · rw [if_neg hv, if_neg hv]
          by_cases h60 : N = 60
          · rw [if_pos ((e60 hw.1.2.2.1).mpr h60), if_pos ((e60 hw.1.2.2.1).mpr h60)]
            exact h.same _
          · have hN : N < 60 := by have := hw.1.2.2.1; omega
            have hz : bZ (if s = 5 then 0 else 1) = some (if s = 5 then 0 else 1) := by rcases hs with rfl | rfl | rfl <;> decide
            have hnr : vp_nar .boolean (if s = 5 then 0 else 1) = (if s = 5 then 0 else 1) := by rcases hs with rfl | rfl | rfl <;> decide
            rw [if_neg (fun g => h60 ((e60 hw.1.2.2.1).mp g)), if_neg (fun g => h60 ((e60 hw.1.2.2.1).mp g)), hz, B1_some, hnr]
            generalize hx : (if s = 5 then (0 : Int32) else 1) = x
            rw [wrT_is hL (okT_lo (by decide)), B1_some, cent_is hN (show cI (sA σ (120 + t) 5 x) 22 = nI N from hw.c22), B1_some, wrA_nI ht12 (by decide), B1_some, ment_is hN (show cI (sA τ 26 t x) 34 = nI N from hw.m34), B1_some]
            refine ⟨_, _, rfl, rfl, rfl, hw.mk3 (w' := w) (n' := n) (N' := N + 1) (Mid.ent (Mid.rfl.wA (by omega))) (MidM.ent (MidM.rfl.wA (by decide))) (Req.ent (Req.yA (Req.xA h.eq (eqA_hi (by omega))) (by decide)) rfl rfl rfl rfl) (hw.1.nxt hN rfl rfl rfl rfl) ?_ ?_ hw.2.2.2.2.2.2.2.1 hw.2.2.2.2.2.2.2.2.1⟩
            · exact Rtr.up (Rtr.wT hw.2.2.2.1 hn ht (f := 5) (m := 26) (by decide)) (Up.ent Up.rfl) (Dn.ent Dn.rfl)
            · refine hw.2.2.2.2.2.2.1.add hn ht (s0 := s) (by omega) hw.now (fun g => by omega) (fun g => by omega) (fun g => ?_) (fun t' ht' => upd_ne _ ht' _) ?_ (fun _ _ => rfl) (Or.inl hc)
              · subst g
                rw [if_neg (by decide)] at hv
                rcases hse with g | ⟨g, -⟩
                · exact absurd g hv
                · exact g
              · show upd (cA τ 26) t x t = 0 ∨ (upd (cA τ 26) t x t = 1 ∧ _)
                rw [upd_at, ← hx]
                rcases hs with rfl | rfl | rfl
                · exact Or.inr ⟨rfl, Or.inr (Or.inl rfl)⟩
                · exact Or.inr ⟨rfl, Or.inr (Or.inr rfl)⟩
                · exact Or.inl rfl
      · rw [if_neg hc, if_neg hc]
        exact h.same _
    · rw [e5, B1_some, B1_some, if_pos k00, if_pos k00]
      exact h.same _
  · rw [e3, e4, B1_some, B1_some, if_pos k00, if_pos k00]
    exact h.same _
theorem Ld.load (h : Ld n (cA τ 21) (cA τ 22) (cA τ 23)) {t : Nat} {v : Int32} (hv : isN v 6) : Ld n (cA τ 21) (cA τ 22) (upd (cA τ 23) t v) := fun t' ht' => by
  obtain ⟨a1, a2⟩ := h t' ht'
  by_cases q : t' = t
  · subst q
    rw [upd_at]
    exact ⟨hv, a2⟩
  · rw [upd_ne _ q]
    exact ⟨a1, a2⟩
theorem s_unload (h : R σ τ) (a : Int32) : Sim (c_unload σ a) (m_unload τ a) Rq := by
  obtain ⟨w, n, N, q, hw⟩ := h.rw
  have hn := hw.1.2.1
  unfold c_unload m_unload
  rcases hw.tcase a with ⟨t, ht, rfl, e3, e4, hT⟩ | ⟨e3, e4⟩
  · obtain ⟨kd, hkd, hL, h17, -, -, -, hF, -⟩ := hT
    have ht12 : t < 12 := by omega
    have f7 := hF (7, 23) (by decide) (okT_lo (by decide))
    dsimp only at f7
    rw [e3, e4, B1_some, B1_some, if_neg k10, if_neg k10, ixD_is ht12 (by decide) hL, B1_some, rdT_is hL (okT_lo (by decide)), B1_some, B1_some, wrT_is hL (okT_lo (by decide)), B1_some, rdA_nI ht12 (by decide), B1_some, wrA_nI ht12 (by decide), B1_some, f7]
    exact ⟨_, _, rfl, rfl, rfl, hw.mk3 (w' := w) (n' := n) (N' := N) (Mid.rfl.wA (by omega)) (MidM.rfl.wA (by decide)) (Req.yA (Req.xA h.eq (eqA_hi (by omega))) (by decide)) hw.1 (Rtr.wT hw.2.2.2.1 hn ht (f := 7) (m := 23) (by decide)) hw.2.2.2.2.2.2.1 hw.2.2.2.2.2.2.2.1 (Ld.load hw.2.2.2.2.2.2.2.2.1 ⟨0, by decide, rfl⟩)⟩
  · rw [e3, e4, B1_some, B1_some, if_pos k00, if_pos k00]
    exact h.same _
theorem s_slide (h : R σ τ) (a b : Int32) : Sim (c_slide σ a b) (m_slide τ a b) Rq := by
  obtain ⟨w, n, N, q, hw⟩ := h.rw
  have hn := hw.1.2.1
  unfold c_slide m_slide m_isAxle
  rcases hw.tcase a with ⟨t, ht, rfl, e3, e4, hT⟩ | ⟨e3, e4⟩
  · obtain ⟨kd, hkd, hL, h17, -, -, -, hF, -⟩ := hT
    have ht12 : t < 12 := by omega
    have f6 := hF (6, 22) (by decide) (okT_lo (by decide))
    dsimp only at f6
    rw [e3, e4, B1_some, B1_some, if_neg k10, if_neg k10, m_in_c]
    rcases in_cases b 60 120 with ⟨b1, b2, e5⟩ | ⟨-, e5⟩
    · have hb : ∃ x, 60 ≤ x ∧ x ≤ 120 ∧ b = nI x := by
        obtain ⟨j, hj, rfl⟩ := nI_of2 (M := 120) (n := 120) (by decide) (fun q => b1 (by
          rw [i32_lt] at q ⊢
          have e0 : (0 : Int32).toInt = 0 := by decide
          have e1 : (60 : Int32).toInt = 60 := by decide
          omega)) (Int32.not_lt.mp b2)
        rw [i32_lt, nI_toInt (by omega)] at b1
        have e1 : (60 : Int32).toInt = 60 := by decide
        exact ⟨j, by omega, by omega, rfl⟩
      obtain ⟨x, hx1, hx2, rfl⟩ := hb
      rw [e5, B1_some, B1_some, bZ_1, B1_some, B1_some, if_neg k10, if_neg k10, ixD_is ht12 (by decide) hL, B1_some, rdT_is hL (okT_lo (by decide)), B1_some, B1_some, wrT_is hL (okT_lo (by decide)), B1_some, rdA_nI ht12 (by decide), B1_some, wrA_nI ht12 (by decide), B1_some, f6]
      refine ⟨_, _, rfl, rfl, rfl, hw.mk3 (w' := w) (n' := n) (N' := N) (Mid.rfl.wA (by omega)) (MidM.rfl.wA (by decide)) (Req.yA (Req.xA h.eq (eqA_hi (by omega))) (by decide)) hw.1 (Rtr.wT hw.2.2.2.1 hn ht (f := 6) (m := 22) (by decide)) hw.2.2.2.2.2.2.1 hw.2.2.2.2.2.2.2.1 (fun t' ht' => ?_)⟩
      obtain ⟨a1, a2, a3⟩ := hw.2.2.2.2.2.2.2.2.1 t' ht'
      refine ⟨a1, a2, ?_⟩
      show ∃ a, 60 ≤ a ∧ a ≤ 120 ∧ upd (cA τ 22) t (nI x) t' = nI a
      by_cases q : t' = t
      · subst q
        rw [upd_at]
        exact ⟨x, hx1, hx2, rfl⟩
      · rw [upd_ne _ q]
        exact a3
    · rw [e5, B1_some, B1_some, bZ_0, B1_some, B1_some, if_pos k00, if_pos k00]
      exact h.same _
  · rw [e3, e4, B1_some, B1_some, if_pos k00, if_pos k00]
    exact h.same _
theorem s_load (h : R σ τ) (a b c : Int32) : Sim (c_load σ a b c) (m_load τ a b c) Rq := by
  obtain ⟨w, n, N, q, hw⟩ := h.rw
  have hn := hw.1.2.1
  unfold c_load m_load
  rcases hw.tcase a with ⟨t, ht, rfl, e3, e4, hT⟩ | ⟨e3, e4⟩
  · obtain ⟨kd, hkd, hL, h17, hL4, hL6, -, hF, -⟩ := hT
    have ht12 : t < 12 := by omega
    have f7 := hF (7, 23) (by decide) (okT_lo (by decide))
    dsimp only at f7
    rw [e3, e4, B1_some, B1_some, if_neg k10, if_neg k10, m_in_c, m_in_c]
    rcases in_cases b 1 20000 with ⟨-, -, e5⟩ | ⟨-, e5⟩
    · rw [e5, B1_some, B1_some, if_neg k10, if_neg k10]
      rcases in_cases c 0 130 with ⟨-, -, e6⟩ | ⟨-, e6⟩
      · obtain ⟨⟨l, hl, el⟩, hr2⟩ := hw.2.2.2.2.2.2.2.2.1 t ht
        have k140 : 120 + t + 20 = 140 + t := by omega
        have k160 : 120 + t + 40 = 160 + t := by omega
        rw [e6, B1_some, B1_some, if_neg k10, if_neg k10, ixD_is ht12 (by decide) hL, B1_some, rdT_is hL (okT_lo (by decide)), B1_some, B1_some, hL, B1_some, rdA_nI ht12 (by decide), B1_some, B1_some, f7, el, k140, k160]
        by_cases h6 : l = 6
        · rw [if_pos (by rw [h6]; rfl), if_pos (by rw [h6]; rfl)]
          exact h.same _
        · have hl6 : l < 6 := by omega
          have n6 : ¬ nI l = 6 := fun g => h6 ((nI_eq (b := 6) (by omega) (by decide)).mp g)
          have i6 : 6 * nI t + nI l = nI (6 * t + l) := by
            show nI 6 * nI t + nI l = _
            rw [pk_mul, nI_add]
          have r1 : rdT (sA σ (140 + t) l b) (120 + t) 7 = some (nI l) := by
            rw [rdT_is (show cL (sA σ (140 + t) l b) (120 + t) = some kd from hL) (okT_lo (by decide)), cA_sA, if_neg (by omega), f7, el]
          have r2 : rdT (sA (sA σ (140 + t) l b) (160 + t) l c) (120 + t) 7 = some (nI l) := by
            rw [rdT_is (show cL (sA (sA σ (140 + t) l b) (160 + t) l c) (120 + t) = some kd from hL) (okT_lo (by decide)), cA_sA, if_neg (by omega), cA_sA, if_neg (by omega), f7, el]
          have r3 : rdT (sA (sA (sA σ (140 + t) l b) (160 + t) l c) (120 + t) 7 (nI (l + 1))) (120 + t) 7 = some (nI (l + 1)) := by
            rw [rdT_is (show cL (sA (sA (sA σ (140 + t) l b) (160 + t) l c) (120 + t) 7 (nI (l + 1))) (120 + t) = some kd from hL) (okT_lo (by decide)), cA_sA, if_pos rfl, upd_at]
          have g1 : cA (sA τ 24 (6 * t + l) b) 23 t = nI l := el
          have g2 : cA (sA (sA τ 24 (6 * t + l) b) 25 (6 * t + l) c) 23 t = nI l := el
          have g3 : cA (sA (sA (sA τ 24 (6 * t + l) b) 25 (6 * t + l) c) 23 t (nI (l + 1))) 23 t = nI (l + 1) := upd_at _ _ _
          have hc1 : cL (sA σ (140 + t) l b) (120 + t) = some kd := hL
          rw [if_neg n6, if_neg n6, wrD_nI hL4 hl6 (by decide), B1_some, hc1, B1_some, r1, B1_some, wrD_nI (show cL (sA σ (140 + t) l b) (160 + t) = some 6 from hL6) hl6 (by decide), B1_some, r2, B1_some, nI_1, wrT_is (show cL (sA (sA σ (140 + t) l b) (160 + t) l c) (120 + t) = some kd from hL) (okT_lo (by decide)), B1_some, r3, B1_some, i6, wrA_nI (by omega) (by decide), B1_some, rdA_nI ht12 (by decide), B1_some, g1, i6, wrA_nI (by omega) (by decide), B1_some, rdA_nI ht12 (by decide), B1_some, g2, nI_1, wrA_nI ht12 (by decide), B1_some, rdA_nI ht12 (by decide), B1_some, g3]
          refine ⟨_, _, rfl, rfl, rfl, hw.mk3 (w' := w) (n' := n) (N' := N) (((Mid.rfl.wA (by omega)).wA (by omega)).wA (by omega)) (((MidM.rfl.wA (by decide)).wA (by decide)).wA (by decide)) (Req.yA (Req.yA (Req.yA (Req.xA (Req.xA (Req.xA h.eq (eqA_hi (by omega))) (eqA_hi (by omega))) (eqA_hi (by omega))) (by decide)) (by decide)) (by decide)) hw.1 (Rtr.wT (Rtr.wW (Rtr.wW hw.2.2.2.1 hn ht hl6 (Or.inl ⟨rfl, rfl⟩)) hn ht hl6 (Or.inr ⟨rfl, rfl⟩)) hn ht (f := 7) (m := 23) (by decide)) hw.2.2.2.2.2.2.1 hw.2.2.2.2.2.2.2.1 (Ld.load hw.2.2.2.2.2.2.2.2.1 ⟨l + 1, by omega, rfl⟩)⟩
      · rw [e6, B1_some, B1_some, if_pos k00, if_pos k00]
        exact h.same _
    · rw [e5, B1_some, B1_some, if_pos k00, if_pos k00]
      exact h.same _
  · rw [e3, e4, B1_some, B1_some, if_pos k00, if_pos k00]
    exact h.same _
end Ops5
