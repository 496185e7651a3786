/-! plain law: hitch, drop, lose, find, seal, load, unload, slide, trailer -/
def Rw (w n N q : Nat) (σ τ : St) : Prop := Cn τ w n N q ∧ Req σ τ ∧
  (Rrw 100 6 (cL σ) (cA σ) (cA τ 6) (cA τ 7) ∧ Rrw 110 4 (cL σ) (cA σ) (cA τ 9) (cA τ 10)) ∧
  Rtr (cL σ) (cA σ) (cA τ) n ∧ Rtm (cA σ 36) (cA σ 37) (cA σ 38) (cA σ 39) (cA τ 43) (cA τ 41) (cA τ 42) q ∧
  (isN (cI τ 58) 6 ∧ (∀ j, j < nN (cI τ 58) → cA σ 48 j = cA τ 59 j) ∧ isN (cI τ 69) 40) ∧
  Bk n N w (cA τ 35) (cA τ 36) (cA τ 37) (cA τ 38) (cA τ 39) (cA τ 20) (cA τ 26) ∧
  Tk n (cA τ 18) (cA τ 19) (cA τ 20) (cA τ 29) (cA τ 30) (cA τ 31) ∧ Ld n (cA τ 21) (cA τ 22) (cA τ 23) ∧ Wy (cA τ 11) (cA τ 12) (cA τ 13) (cA τ 14)
theorem R.rw {σ τ : St} (h : R σ τ) : ∃ w n N q, Rw w n N q σ τ := h
section Ops4
variable {σ σ' τ τ' : St} {w n N q : Nat}
theorem Rw.r (h : Rw w n N q σ τ) : R σ τ := ⟨w, n, N, q, h⟩
theorem Rw.mk3 (h : Rw w n N q σ τ) (hm : Mid σ σ') (hmm : MidM τ τ') (hq : Req σ' τ') {w' n' N' : Nat} (k1 : Cn τ' w' n' N' q) (k2 : Rtr (cL σ') (cA σ') (cA τ') n') (k3 : Bk n' N' w' (cA τ' 35) (cA τ' 36) (cA τ' 37) (cA τ' 38) (cA τ' 39) (cA τ' 20) (cA τ' 26)) (k4 : Tk n' (cA τ' 18) (cA τ' 19) (cA τ' 20) (cA τ' 29) (cA τ' 30) (cA τ' 31)) (k5 : Ld n' (cA τ' 21) (cA τ' 22) (cA τ' 23)) : R σ' τ' := by
  obtain ⟨h1, h2, h3, h4, h5, h6, h7, h8, h9, h10⟩ := h
  refine ⟨w', n', N', q, k1, hq, ⟨?_, ?_⟩, k2, ?_, ?_, k3, k4, k5, ?_⟩
  · rw [hmm.1 6 (by decide), hmm.1 7 (by decide)]
    exact h3.1.to (fun k hk => (hm.2.2 _ (by omega) (by omega)).1) (fun k hk => (hm.2.2 _ (by omega) (by omega)).2)
  · rw [hmm.1 9 (by decide), hmm.1 10 (by decide)]
    exact h3.2.to (fun k hk => (hm.2.2 _ (by omega) (by omega)).1) (fun k hk => (hm.2.2 _ (by omega) (by omega)).2)
  · rw [hm.1 36 (by decide) (by decide), hm.1 37 (by decide) (by decide), hm.1 38 (by decide) (by decide), hm.1 39 (by decide) (by decide), hmm.1 43 (by decide), hmm.1 41 (by decide), hmm.1 42 (by decide)]
    exact h5
  · rw [hmm.2.1, hmm.2.2, hm.2.1, hmm.1 59 (by decide)]
    exact h6
  · rw [hmm.1 11 (by decide), hmm.1 12 (by decide), hmm.1 13 (by decide), hmm.1 14 (by decide)]
    exact h10
theorem Mid.ent (h : Mid σ σ') {N : Nat} {a b c d : Int32} : Mid σ (entC σ' N a b c d) := Mid.wI (((((h.wA (by decide)).wA (by decide)).wA (by decide)).wA (by decide)).wA (by decide))
theorem MidM.ent (h : MidM τ τ') {N : Nat} {a b c d : Int32} : MidM τ (entM τ' N a b c d) := MidM.wI (((((h.wA (by decide)).wA (by decide)).wA (by decide)).wA (by decide)).wA (by decide)) (by decide)
theorem Rw.c19 (h : Rw w n N q σ τ) : cI σ 19 = nI n := (h.2.1.I 19 16 (by decide)).trans h.1.2.2.2.2.2.1
theorem Rw.m16 (h : Rw w n N q σ τ) : cI τ 16 = nI n := h.1.2.2.2.2.2.1
theorem Rw.c22 (h : Rw w n N q σ τ) : cI σ 22 = nI N := (h.2.1.I 22 34 (by decide)).trans h.1.2.2.2.2.2.2.1
theorem Rw.m34 (h : Rw w n N q σ τ) : cI τ 34 = nI N := h.1.2.2.2.2.2.2.1
theorem Rw.m5 (h : Rw w n N q σ τ) : cI τ 5 = nI w := h.1.2.2.2.2.1
theorem Rw.tcase (h : Rw w n N q σ τ) (a : Int32) : (∃ j, j < n ∧ a = nI j ∧ c_isTrailer σ a = some 1 ∧ m_isTrailer τ a = some 1 ∧ Tr1 (cL σ) (cA σ) (cA τ) j) ∨ (c_isTrailer σ a = some 0 ∧ m_isTrailer τ a = some 0) := by
  have hn := h.1.2.1
  rcases trailer_cases σ τ a h.c19 h.m16 (by omega) with ⟨j, h5, h6, h7, h8⟩ | h9
  · exact Or.inl ⟨j, h5, h6, h7, h8, h.2.2.2.1.1 j h5⟩
  · exact Or.inr h9
theorem Cn.nxt (h : Cn τ w n N q) (hN : N < 60) (e5 : cI τ' 5 = cI τ 5) (e16 : cI τ' 16 = cI τ 16) (e34 : cI τ' 34 = nI (N + 1)) (e40 : cI τ' 40 = cI τ 40) : Cn τ' w n (N + 1) q := ⟨h.1, h.2.1, by omega, h.2.2.2.1, e5.trans h.2.2.2.2.1, e16.trans h.2.2.2.2.2.1, e34, e40.trans h.2.2.2.2.2.2.2⟩
theorem Rw.now (h : Rw w n N q σ τ) : isN (cI τ 5) w := ⟨w, Nat.le_refl _, h.m5⟩
theorem k90 : ¬ (0 : Int32) ≤ -9 := by decide
theorem k9l : (-9 : Int32) < 0 := by decide
theorem l4 : 4 < 2 ^ 31 := by decide
theorem l6 : 6 < 2 ^ 31 := by decide
theorem l8 : 8 < 2 ^ 31 := by decide
theorem l12 : 12 < 2 ^ 31 := by decide
theorem l60 : 60 < 2 ^ 31 := by decide
theorem s_hitch (h : R σ τ) (a b : Int32) : Sim (c_hitch σ a b) (m_hitch τ a b) Rq := by
  obtain ⟨w, n, N, q, hw⟩ := h.rw
  have hn := hw.1.2.1
  unfold c_hitch m_hitch
  rcases tractor_cases a with ⟨k, hk, rfl, e1, e2⟩ | ⟨e1, e2⟩
  · rw [e1, e2, B1_some, B1_some, if_neg k10, if_neg k10]
    rcases hw.tcase b with ⟨t, ht, rfl, e3, e4, hT⟩ | ⟨e3, e4⟩
    · obtain ⟨kd, hkd, hL, h17, -, -, -, hF, -⟩ := hT
      have ht12 : t < 12 := by omega
      obtain ⟨v, e5, e6⟩ := onWay_is h hk
      rw [e3, e4, B1_some, B1_some, if_neg k10, if_neg k10, ixD_is ht12 (by decide) hL, B1_some, e5, e6, B1_some, B1_some]
      cases v with
      | true =>
        rw [b01_t, if_neg k10, if_neg k10]
        exact h.same _
      | false =>
        have f2 := hF (2, 18) (by decide) (okT_lo (by decide))
        dsimp only at f2
        obtain ⟨hT1, hT2⟩ := hw.2.2.2.2.2.2.2.1
        obtain ⟨⟨y, hy, ey⟩, hsi, hha⟩ := hT1 k hk
        have hhas : cA τ 31 k = -9 ∨ ∃ t', t' < n ∧ cA τ 31 k = nI t' := by
          rcases hha with g | ⟨t', g1, g2, -⟩
          · exact Or.inl g
          · exact Or.inr ⟨t', g1, g2⟩
        simp only [b01_f, if_true, rdA_nI hk l6, rdA_nI ht12 l12, wrA_nI hk l6, wrA_nI ht12 l12, rdT_is hL (okT_lo (show 2 < 8 by decide)), B1_some, h.eq.A 30 31 (by decide), h.eq.A 28 29 (by decide), f2, ey]
        rcases hhas with g | ⟨t', g1, g2⟩
        · rw [g, if_pos rfl, if_neg k90]
          by_cases hc : cA τ 18 t = nI y
          · rw [if_pos hc, if_pos hc, hw.c22, hw.m34]
            by_cases h60 : N = 60
            · rw [if_pos ((e60 hw.1.2.2.1).mpr h60), if_pos ((e60 hw.1.2.2.1).mpr h60)]
              exact h.same _
            · have hN : N < 60 := by have := hw.1.2.2.1; omega
              have hl0 : cA τ 20 t = 0 := by
                obtain ⟨-, g4, -⟩ := hT2 t ht
                rcases hw.2.2.2.2.2.2.1.2.2.2.2 t ht with g5 | ⟨g5, -⟩
                · exact g5
                · have := g4 g5
                  rw [hc] at this
                  exact absurd this (nI_n9 (by omega))
              have hse := hw.2.2.2.2.2.2.1.2.2.2.1 t ht
              rw [if_neg (fun g => h60 ((e60 hw.1.2.2.1).mp g)), if_neg (fun g => h60 ((e60 hw.1.2.2.1).mp g)), hc, cent_is hN hw.c22, B1_some, ment_is hN hw.m34, B1_some, wrT_is (show cL (sA (entC σ N (nI t) 1 (nI k) (nI y)) 30 k (nI t)) (120 + t) = some kd from hL) (okT_lo (by decide)), B1_some, wrT_is (show cL (sA (sA (entC σ N (nI t) 1 (nI k) (nI y)) 30 k (nI t)) (120 + t) 3 (nI k)) (120 + t) = some kd from hL) (okT_lo (by decide)), B1_some]
              refine ⟨_, _, rfl, rfl, rfl, hw.mk3 (w' := w) (n' := n) (N' := N + 1) (((Mid.rfl.ent.wA (by decide)).wA (by omega)).wA (by omega)) (((MidM.rfl.ent.wA (by decide)).wA (by decide)).wA (by decide)) (Req.xA (Req.xA (Req.wA (Req.yA (Req.yA (Req.ent h.eq rfl rfl rfl rfl) (by decide)) (by decide)) (by decide) rfl) (eqA_hi (by omega))) (eqA_hi (by omega))) (hw.1.nxt hN rfl rfl rfl rfl) ?_ ?_ ?_ hw.2.2.2.2.2.2.2.2.1⟩
              · show Rtr _ (cA (sA (sA (sA (entC σ N (nI t) 1 (nI k) (nI y)) 30 k (nI t)) (120 + t) 3 (nI k)) (120 + t) 2 (-9))) (cA (sA (sA (sA (entM τ N (nI t) 1 (nI k) (nI y)) 18 t (-9)) 19 t (nI k)) 31 k (nI t))) n
                rw [sA_comm (entM τ N (nI t) 1 (nI k) (nI y)) (show 18 ≠ 19 by decide)]
                exact Rtr.up (Rtr.wT (Rtr.wT (hw.2.2.2.1.up (Up.wA (Up.ent Up.rfl) (by decide)) (Dn.ent Dn.rfl)) hn ht (by decide)) hn ht (by decide)) Up.rfl (Dn.rfl.wA (by decide))
              · exact hw.2.2.2.2.2.2.1.add hn ht (s0 := 1) (by decide) hw.now (fun g => absurd g (by decide)) (fun _ => ⟨⟨k, hk, rfl⟩, y, hy, rfl⟩) (fun g => absurd g (by decide)) (fun _ _ => rfl) (by rcases hse with g | ⟨g, -⟩; exact Or.inl g; exact Or.inr ⟨g, Or.inl g⟩) (fun _ _ => rfl) (Or.inl hl0)
              · exact Tk.hitch hw.2.2.2.2.2.2.2.1 hn ht hk hy hc hl0
          · rw [if_neg hc, if_neg hc]
            exact h.same _
        · have g3 : ¬ cA τ 31 k = -9 := by rw [g2]; exact nI_n9 (by omega)
          have g4 : (0 : Int32) ≤ cA τ 31 k := by rw [g2]; exact nI_pos' (by omega)
          rw [if_neg g3, if_pos g4]
          exact h.same _
    · rw [e3, e4, B1_some, B1_some, if_pos k00, if_pos k00]
      exact h.same _
  · rw [e1, e2, B1_some, B1_some, if_pos k00, if_pos k00]
    exact h.same _
theorem s_drop (h : R σ τ) (a : Int32) : Sim (c_drop σ a) (m_drop τ a) Rq := by
  obtain ⟨w, n, N, q, hw⟩ := h.rw
  have hn := hw.1.2.1
  unfold c_drop m_drop
  rcases tractor_cases a with ⟨k, hk, rfl, e1, e2⟩ | ⟨e1, e2⟩
  · rw [e1, e2, B1_some, B1_some, if_neg k10, if_neg k10]
    obtain ⟨v, e5, e6⟩ := onWay_is h hk
    rw [e5, e6, B1_some, B1_some]
    cases v with
    | true =>
      rw [b01_t, if_neg k10, if_neg k10]
      exact h.same _
    | false =>
      obtain ⟨hT1, hT2⟩ := hw.2.2.2.2.2.2.2.1
      obtain ⟨⟨y, hy, ey⟩, hsi, hha⟩ := hT1 k hk
      simp only [b01_f, if_true, rdA_nI hk l6, wrA_nI hk l6, B1_some, h.eq.A 30 31 (by decide), hw.c22, hw.m34]
      rcases hha with g | ⟨t, ht, g2, g3, g4, g5⟩
      · rw [g, if_pos rfl, if_neg k90]
        exact h.same _
      · have ht12 : t < 12 := by omega
        rw [g2, if_neg (nI_n9 (by omega)), if_pos (nI_pos' (by omega))]
        by_cases h60 : N = 60
        · rw [if_pos ((e60 hw.1.2.2.1).mpr h60), if_pos ((e60 hw.1.2.2.1).mpr h60)]
          exact h.same _
        · have hN : N < 60 := by have := hw.1.2.2.1; omega
          obtain ⟨kd, hkd, hL, h17, -, -, -, hF, -⟩ := hw.2.2.2.1.1 t ht
          have hse := hw.2.2.2.2.2.2.1.2.2.2.1 t ht
          have y28 : cA (sA σ (120 + t) 3 (-9)) 28 k = nI y := by
            rw [cA_sA, if_neg (by omega), h.eq.A 28 29 (by decide)]; exact ey
          have y28b : cA (sA (sA (sA σ (120 + t) 3 (-9)) (120 + t) 2 (nI y)) 30 k (-9)) 28 k = nI y := by
            rw [cA_sA, if_neg (by decide), cA_sA, if_neg (by omega)]; exact y28
          have y29 : cA (sA (sA τ 31 k (-9)) 19 t (-9)) 29 k = nI y := ey
          have y29b : cA (sA (sA (sA τ 31 k (-9)) 19 t (-9)) 18 t (nI y)) 29 k = nI y := ey
          rw [if_neg (fun g => h60 ((e60 hw.1.2.2.1).mp g)), if_neg (fun g => h60 ((e60 hw.1.2.2.1).mp g)), ixD_is ht12 (by decide) hL, B1_some, wrT_is hL (okT_lo (by decide)), B1_some, ixD_is (σ := sA σ (120 + t) 3 (-9)) ht12 (by decide) hL, B1_some, y28, wrT_is (show cL (sA σ (120 + t) 3 (-9)) (120 + t) = some kd from hL) (okT_lo (by decide)), B1_some, y28b, cent_is hN (show cI (sA (sA (sA σ (120 + t) 3 (-9)) (120 + t) 2 (nI y)) 30 k (-9)) 22 = nI N from hw.c22), B1_some, wrA_nI ht12 (by decide), B1_some, y29, wrA_nI ht12 (by decide), B1_some, y29b, ment_is hN (show cI (sA (sA (sA τ 31 k (-9)) 19 t (-9)) 18 t (nI y)) 34 = nI N from hw.m34), B1_some]
          refine ⟨_, _, rfl, rfl, rfl, hw.mk3 (w' := w) (n' := n) (N' := N + 1) (Mid.ent (((Mid.rfl.wA (by omega)).wA (by omega)).wA (by decide))) (MidM.ent (((MidM.rfl.wA (by decide)).wA (by decide)).wA (by decide))) (Req.ent (Req.yA (Req.yA (Req.wA (Req.xA (Req.xA h.eq (eqA_hi (by omega))) (eqA_hi (by omega))) (by decide) rfl) (by decide)) (by decide)) rfl rfl rfl rfl) (hw.1.nxt hN rfl rfl rfl rfl) ?_ ?_ ?_ hw.2.2.2.2.2.2.2.2.1⟩
          · exact Rtr.up (Rtr.up (Rtr.wT (Rtr.wT (hw.2.2.2.1.up Up.rfl (Dn.rfl.wA (k := 31) (i := k) (v := -9) (by decide))) hn ht (f := 3) (m := 19) (by decide)) hn ht (f := 2) (m := 18) (by decide)) (Up.wA Up.rfl (by decide)) Dn.rfl) (Up.ent Up.rfl) (Dn.ent Dn.rfl)
          · exact hw.2.2.2.2.2.2.1.add hn ht (s0 := 0) (by decide) hw.now (fun _ => ⟨y, hy, rfl, rfl⟩) (fun g => absurd g (by decide)) (fun g => absurd g (by decide)) (fun _ _ => rfl) (by rcases hse with g | ⟨g, -⟩; exact Or.inl g; exact Or.inr ⟨g, Or.inl g⟩) (fun _ _ => rfl) (Or.inl g5)
          · exact Tk.drop hw.2.2.2.2.2.2.2.1 hn ht hk hy g3 g5
  · rw [e1, e2, B1_some, B1_some, if_pos k00, if_pos k00]
    exact h.same _
theorem s_find (h : R σ τ) (a b : Int32) : Sim (c_find σ a b) (m_find τ a b) Rq := by
  obtain ⟨w, n, N, q, hw⟩ := h.rw
  have hn := hw.1.2.1
  unfold c_find m_find
  rcases hw.tcase a with ⟨t, ht, rfl, e3, e4, hT⟩ | ⟨e3, e4⟩
  · obtain ⟨kd, hkd, hL, h17, -, -, -, hF, -⟩ := hT
    have ht12 : t < 12 := by omega
    rw [e3, e4, B1_some, B1_some, if_neg k10, if_neg k10]
    rcases yard_cases b with ⟨y, hy, rfl, e5, e6⟩ | ⟨-, e5, e6⟩
    · have f4 := hF (4, 20) (by decide) (okT_lo (by decide))
      dsimp only at f4
      rw [e5, e6, B1_some, B1_some, if_neg k10, if_neg k10, ixD_is ht12 (by decide) hL, B1_some, rdT_is hL (okT_lo (by decide)), B1_some, rdA_nI ht12 (by decide), B1_some, f4, hw.c22, hw.m34]
      by_cases hc : cA τ 20 t = 0
      · rw [if_pos hc, if_pos hc]
        exact h.same _
      · rw [if_neg hc, if_neg hc]
        by_cases h60 : N = 60
        · rw [if_pos ((e60 hw.1.2.2.1).mpr h60), if_pos ((e60 hw.1.2.2.1).mpr h60)]
          exact h.same _
        · have hN : N < 60 := by have := hw.1.2.2.1; omega
          have hse := hw.2.2.2.2.2.2.1.2.2.2.1 t ht
          have hl1 : cA τ 20 t = 1 := by
            rcases hw.2.2.2.2.2.2.1.2.2.2.2 t ht with g5 | ⟨g5, -⟩
            · exact absurd g5 hc
            · exact g5
          rw [if_neg (fun g => h60 ((e60 hw.1.2.2.1).mp g)), if_neg (fun g => h60 ((e60 hw.1.2.2.1).mp g)), wrT_is hL (okT_lo (by decide)), B1_some, wrT_is (show cL (sA σ (120 + t) 4 0) (120 + t) = some kd from hL) (okT_lo (by decide)), B1_some, cent_is hN (show cI (sA (sA σ (120 + t) 4 0) (120 + t) 2 (nI y)) 22 = nI N from hw.c22), B1_some, nr_0, wrA_nI ht12 (by decide), B1_some, wrA_nI ht12 (by decide), B1_some, ment_is hN (show cI (sA (sA τ 20 t 0) 18 t (nI y)) 34 = nI N from hw.m34), B1_some]
          refine ⟨_, _, rfl, rfl, rfl, hw.mk3 (w' := w) (n' := n) (N' := N + 1) (Mid.ent ((Mid.rfl.wA (by omega)).wA (by omega))) (MidM.ent ((MidM.rfl.wA (by decide)).wA (by decide))) (Req.ent (Req.yA (Req.yA (Req.xA (Req.xA h.eq (eqA_hi (by omega))) (eqA_hi (by omega))) (by decide)) (by decide)) rfl rfl rfl rfl) (hw.1.nxt hN rfl rfl rfl rfl) ?_ ?_ ?_ hw.2.2.2.2.2.2.2.2.1⟩
          · exact Rtr.up (Rtr.wT (Rtr.wT hw.2.2.2.1 hn ht (f := 4) (m := 20) (by decide)) hn ht (f := 2) (m := 18) (by decide)) (Up.ent Up.rfl) (Dn.ent Dn.rfl)
          · exact hw.2.2.2.2.2.2.1.add hn ht (s0 := 0) (by decide) hw.now (fun _ => ⟨y, hy, rfl, rfl⟩) (fun g => absurd g (by decide)) (fun g => absurd g (by decide)) (fun _ _ => rfl) (by rcases hse with g | ⟨g, -⟩; exact Or.inl g; exact Or.inr ⟨g, Or.inl g⟩) (fun t' ht' => upd_ne _ ht' _) (Or.inl (upd_at _ _ _))
          · exact Tk.find hw.2.2.2.2.2.2.2.1 ht hy hl1
    · rw [e5, e6, B1_some, B1_some, if_pos k00, if_pos k00]
      exact h.same _
  · rw [e3, e4, B1_some, B1_some, if_pos k00, if_pos k00]
    exact h.same _
theorem s_lose (h : R σ τ) (a : Int32) : Sim (c_lose σ a) (m_lose τ a) Rq := by
  obtain ⟨w, n, N, q, hw⟩ := h.rw
  have hn := hw.1.2.1
  unfold c_lose m_lose
  rcases hw.tcase a with ⟨t, ht, rfl, e3, e4, hT⟩ | ⟨e3, e4⟩
  · obtain ⟨kd, hkd, hL, h17, -, -, -, hF, -⟩ := hT
    have ht12 : t < 12 := by omega
    have f4 := hF (4, 20) (by decide) (okT_lo (by decide))
    have f3 := hF (3, 19) (by decide) (okT_lo (by decide))
    dsimp only at f4 f3
    rw [e3, e4, B1_some, B1_some, if_neg k10, if_neg k10, ixD_is ht12 (by decide) hL, B1_some]
    simp only [rdA_nI ht12 l12, rdT_is hL (okT_lo (show 4 < 8 by decide)), rdT_is hL (okT_lo (show 3 < 8 by decide)), B1_some, f4, f3, hw.c22, hw.m34]
    by_cases hc : cA τ 20 t = 0
    · rw [if_pos hc, if_pos hc]
      by_cases h60 : N = 60
      · rw [if_pos ((e60 hw.1.2.2.1).mpr h60), if_pos ((e60 hw.1.2.2.1).mpr h60)]
        exact h.same _
      · have hN : N < 60 := by have := hw.1.2.2.1; omega
        have hse := hw.2.2.2.2.2.2.1.2.2.2.1 t ht
        rw [if_neg (fun g => h60 ((e60 hw.1.2.2.1).mp g)), if_neg (fun g => h60 ((e60 hw.1.2.2.1).mp g))]
        rcases (hw.2.2.2.2.2.2.2.1.2 t ht).1 with g | ⟨k, hk, g⟩
        · rw [g, if_pos rfl, if_pos k9l, B1_some, B1_some, wrT_is hL (okT_lo (by decide)), B1_some, wrT_is (show cL (sA σ (120 + t) 3 (-9)) (120 + t) = some kd from hL) (okT_lo (by decide)), B1_some, wrT_is (show cL (sA (sA σ (120 + t) 3 (-9)) (120 + t) 2 (-9)) (120 + t) = some kd from hL) (okT_lo (by decide)), B1_some, cent_is hN (show cI (sA (sA (sA σ (120 + t) 3 (-9)) (120 + t) 2 (-9)) (120 + t) 4 1) 22 = nI N from hw.c22), B1_some, nr_1, wrA_nI ht12 (by decide), B1_some, wrA_nI ht12 (by decide), B1_some, wrA_nI ht12 (by decide), B1_some, ment_is hN (show cI (sA (sA (sA τ 19 t (-9)) 18 t (-9)) 20 t 1) 34 = nI N from hw.m34), B1_some]
          refine ⟨_, _, rfl, rfl, rfl, hw.mk3 (w' := w) (n' := n) (N' := N + 1) (Mid.ent (((Mid.rfl.wA (by omega)).wA (by omega)).wA (by omega))) (MidM.ent (((MidM.rfl.wA (by decide)).wA (by decide)).wA (by decide))) (Req.ent (Req.yA (Req.yA (Req.yA (Req.xA (Req.xA (Req.xA h.eq (eqA_hi (by omega))) (eqA_hi (by omega))) (eqA_hi (by omega))) (by decide)) (by decide)) (by decide)) rfl rfl rfl rfl) (hw.1.nxt hN rfl rfl rfl rfl) ?_ ?_ ?_ hw.2.2.2.2.2.2.2.2.1⟩
          · exact Rtr.up (Rtr.wT (Rtr.wT (Rtr.wT hw.2.2.2.1 hn ht (f := 3) (m := 19) (by decide)) hn ht (f := 2) (m := 18) (by decide)) hn ht (f := 4) (m := 20) (by decide)) (Up.ent Up.rfl) (Dn.ent Dn.rfl)
          · exact hw.2.2.2.2.2.2.1.add hn ht (s0 := 2) (by decide) hw.now (fun g => absurd g (by decide)) (fun g => absurd g (by decide)) (fun g => absurd g (by decide)) (fun _ _ => rfl) (by rcases hse with g | ⟨g, -⟩; exact Or.inl g; exact Or.inr ⟨g, Or.inl g⟩) (fun t' ht' => upd_ne _ ht' _) (Or.inr ⟨upd_at _ _ _, rfl⟩)
          · exact Tk.lose hw.2.2.2.2.2.2.2.1 hn ht g
        · have n1 : ¬ nI k < 0 := nI_pos (by omega)
          rw [g, if_neg (nI_n9 (by omega)), if_neg n1, wrA_nI hk (by decide), B1_some, B1_some, wrA_nI hk (by decide), B1_some, B1_some, wrT_is (show cL (sA σ 30 k (-9)) (120 + t) = some kd from hL) (okT_lo (by decide)), B1_some, wrT_is (show cL (sA (sA σ 30 k (-9)) (120 + t) 3 (-9)) (120 + t) = some kd from hL) (okT_lo (by decide)), B1_some, wrT_is (show cL (sA (sA (sA σ 30 k (-9)) (120 + t) 3 (-9)) (120 + t) 2 (-9)) (120 + t) = some kd from hL) (okT_lo (by decide)), B1_some, cent_is hN (show cI (sA (sA (sA (sA σ 30 k (-9)) (120 + t) 3 (-9)) (120 + t) 2 (-9)) (120 + t) 4 1) 22 = nI N from hw.c22), B1_some, nr_1, wrA_nI ht12 (by decide), B1_some, wrA_nI ht12 (by decide), B1_some, wrA_nI ht12 (by decide), B1_some, ment_is hN (show cI (sA (sA (sA (sA τ 31 k (-9)) 19 t (-9)) 18 t (-9)) 20 t 1) 34 = nI N from hw.m34), B1_some]
          refine ⟨_, _, rfl, rfl, rfl, hw.mk3 (w' := w) (n' := n) (N' := N + 1) (Mid.ent ((((Mid.rfl.wA (by decide)).wA (by omega)).wA (by omega)).wA (by omega))) (MidM.ent ((((MidM.rfl.wA (by decide)).wA (by decide)).wA (by decide)).wA (by decide))) (Req.ent (Req.yA (Req.yA (Req.yA (Req.xA (Req.xA (Req.xA (Req.wA h.eq (by decide) rfl) (eqA_hi (by omega))) (eqA_hi (by omega))) (eqA_hi (by omega))) (by decide)) (by decide)) (by decide)) rfl rfl rfl rfl) (hw.1.nxt hN rfl rfl rfl rfl) ?_ ?_ ?_ hw.2.2.2.2.2.2.2.2.1⟩
          · exact Rtr.up (Rtr.wT (Rtr.wT (Rtr.wT (hw.2.2.2.1.up (Up.wA Up.rfl (by decide)) (Dn.wA Dn.rfl (by decide))) hn ht (f := 3) (m := 19) (by decide)) hn ht (f := 2) (m := 18) (by decide)) hn ht (f := 4) (m := 20) (by decide)) (Up.ent Up.rfl) (Dn.ent Dn.rfl)
          · exact hw.2.2.2.2.2.2.1.add hn ht (s0 := 2) (by decide) hw.now (fun g => absurd g (by decide)) (fun g => absurd g (by decide)) (fun g => absurd g (by decide)) (fun _ _ => rfl) (by rcases hse with g | ⟨g, -⟩; exact Or.inl g; exact Or.inr ⟨g, Or.inl g⟩) (fun t' ht' => upd_ne _ ht' _) (Or.inr ⟨upd_at _ _ _, rfl⟩)
          · exact Tk.loseH hw.2.2.2.2.2.2.2.1 hn ht hk g
    · rw [if_neg hc, if_neg hc]
      exact h.same _
  · rw [e3, e4, B1_some, B1_some, if_pos k00, if_pos k00]
    exact h.same _
end Ops4
