/-! plain law: a new trailer; mark, where -/
section Ops6
variable {σ σ' τ τ' : St} {w n N q : Nat}
theorem sI_comm (σ : St) {k j : Nat} (h : k ≠ j) (v v' : Int32) : sI (sI σ k v) j v' = sI (sI σ j v') k v := by
  unfold sI
  have e : va_up (va_up σ.1 k v) j v' = va_up (va_up σ.1 j v') k v := by
    funext i
    unfold va_up
    by_cases h1 : i = k
    · subst h1
      simp [h]
    · simp [h1]
  simp only [e]
theorem entC_sI (σ : St) (N : Nat) (a b c d v : Int32) : entC (sI σ 19 v) N a b c d = sI (entC σ N a b c d) 19 v := by
  unfold entC
  exact sI_comm (sA (sA (sA (sA (sA σ 23 N a) 24 N b) 25 N (cI σ 11)) 26 N c) 27 N d) (show 19 ≠ 22 by decide) v _
/-- the reference's six writings for a new trailer -/
abbrev mNew (τ : St) (n : Nat) (k y wv l : Int32) : St := sA (sA (sA (sA (sA (sA τ 17 n k) 18 n y) 19 n (-9)) 21 n wv) 22 n 100) 27 n l
theorem Rtr.new (h : Rtr (cL σ) (cA σ) (cA τ) n) (hn : n < 12) {kd : Nat} (hkd : kd < 4) {y wv : Int32} : Rtr (cL (trNew σ n kd y wv)) (cA (trNew σ n kd y wv)) (cA (mNew τ n (nI kd) y wv (if kd = 3 then -18 else 5))) (n + 1) := by
  have hL : ∀ k, k ≠ 120 + n → k ≠ 140 + n → k ≠ 160 + n → cL (trNew σ n kd y wv) k = cL σ k := fun k h1 h2 h3 => by
    unfold trNew
    simp only [cL_sL, cL_sAr, if_neg h1, if_neg h2, if_neg h3]
  have hA : ∀ k, k ≠ 120 + n → k ≠ 140 + n → k ≠ 160 + n → cA (trNew σ n kd y wv) k = cA σ k := fun k h1 h2 h3 => by
    unfold trNew
    simp only [cA_sL, cA_sAr, if_neg h1, if_neg h2, if_neg h3]
  have hM : ∀ k j, j ≠ n → cA (mNew τ n (nI kd) y wv (if kd = 3 then -18 else 5)) k j = cA τ k j := fun k j hj => by
    simp only [cA_sA]
    by_cases h1 : k = 27
    · subst h1; simp [upd, hj]
    by_cases h2 : k = 22
    · subst h2; simp [upd, hj]
    by_cases h3 : k = 21
    · subst h3; simp [upd, hj]
    by_cases h4 : k = 19
    · subst h4; simp [upd, hj]
    by_cases h5 : k = 18
    · subst h5; simp [upd, hj]
    by_cases h6 : k = 17
    · subst h6; simp [upd, hj]
    simp only [if_neg h1, if_neg h2, if_neg h3, if_neg h4, if_neg h5, if_neg h6]
  have hM24 : cA (mNew τ n (nI kd) y wv (if kd = 3 then -18 else 5)) 24 = cA τ 24 := rfl
  have hM25 : cA (mNew τ n (nI kd) y wv (if kd = 3 then -18 else 5)) 25 = cA τ 25 := rfl
  refine ⟨fun t ht => ?_, fun t h1 h2 => ?_⟩
  · by_cases q : t = n
    · subst q
      obtain ⟨-, z20, z23, z26, z28, zw⟩ := h.2 t (Nat.le_refl _) hn
      have c120 : cA (trNew σ t kd y wv) (120 + t) = fldT kd t y wv := by
        unfold trNew
        rw [cA_sL, cA_sL, cA_sL, cA_sAr, if_neg (by omega), cA_sAr, if_neg (by omega), cA_sAr, if_pos rfl]
      have c140 : cA (trNew σ t kd y wv) (140 + t) = fun _ => 0 := by
        unfold trNew
        rw [cA_sL, cA_sL, cA_sL, cA_sAr, if_neg (by omega), cA_sAr, if_pos rfl]
      have c160 : cA (trNew σ t kd y wv) (160 + t) = fun _ => 0 := by
        unfold trNew
        rw [cA_sL, cA_sL, cA_sL, cA_sAr, if_pos rfl]
      have l120 : cL (trNew σ t kd y wv) (120 + t) = some kd := by
        unfold trNew
        rw [cL_sL, if_neg (by omega), cL_sL, if_neg (by omega), cL_sL, if_pos rfl]
      have l140 : cL (trNew σ t kd y wv) (140 + t) = some 6 := by
        unfold trNew
        rw [cL_sL, if_neg (by omega), cL_sL, if_pos rfl]
      have l160 : cL (trNew σ t kd y wv) (160 + t) = some 6 := by
        unfold trNew
        rw [cL_sL, if_pos rfl]
      refine ⟨kd, hkd, l120, upd_at _ _ _, l140, l160, by rw [c120]; rfl, fun p hp ho => ?_, fun j hj => ?_⟩
      · rw [c120]
        simp only [tfm, List.mem_cons, List.not_mem_nil, or_false] at hp
        rcases hp with rfl | rfl | rfl | rfl | rfl | rfl | rfl | rfl | rfl
        · exact (upd_at _ _ _).symm
        · exact (upd_at _ _ _).symm
        · exact (upd_at _ _ _).symm
        · exact z20.symm
        · exact z26.symm
        · exact (upd_at _ _ _).symm
        · exact z23.symm
        · exact (upd_at _ _ _).symm
        · exact z28.symm
      · rw [c140, c160, hM24, hM25, (zw j hj).1, (zw j hj).2]
        exact ⟨rfl, rfl⟩
    · obtain ⟨kd', g1, g2, g3, g4, g5, g6, g7, g8⟩ := h.1 t (by omega)
      refine ⟨kd', g1, by rw [hL _ (by omega) (by omega) (by omega)]; exact g2, by rw [hM _ _ q]; exact g3, by rw [hL _ (by omega) (by omega) (by omega)]; exact g4, by rw [hL _ (by omega) (by omega) (by omega)]; exact g5, by rw [hA _ (by omega) (by omega) (by omega)]; exact g6, fun p hp ho => ?_, fun j hj => ?_⟩
      · rw [hA _ (by omega) (by omega) (by omega), hM _ _ q]
        exact g7 p hp ho
      · rw [hA (140 + t) (by omega) (by omega) (by omega), hA (160 + t) (by omega) (by omega) (by omega), hM24, hM25]
        exact g8 j hj
  · have q : t ≠ n := by omega
    have g := h.2 t (by omega) h2
    unfold Tr0 at g ⊢
    rw [hL (120 + t) (by omega) (by omega) (by omega), hL (140 + t) (by omega) (by omega) (by omega), hL (160 + t) (by omega) (by omega) (by omega), hM 20 t q, hM 23 t q, hM 26 t q, hM 28 t q, hM24, hM25]
    exact g
theorem s_trailer (h : R σ τ) (a b c : Int32) : Sim (c_trailer σ a b c) (m_trailer τ a b c) Rq := by
  obtain ⟨w, n, N, q, hw⟩ := h.rw
  have hn := hw.1.2.1
  unfold c_trailer m_trailer
  rw [m_in_c]
  rcases rng_cases a 3 (N := 3) (by decide) with ⟨kd, hkd, rfl, e1⟩ | ⟨-, e1⟩
  · rw [e1, B1_some, B1_some, if_neg k10, if_neg k10]
    rcases yard_cases b with ⟨y, hy, rfl, e3, e4⟩ | ⟨-, e3, e4⟩
    · rw [e3, e4, B1_some, B1_some, if_neg k10, if_neg k10]
      rcases worth_cases c with ⟨wv, hwv, rfl, e5, e6⟩ | ⟨e5, e6⟩
      · rw [e5, e6, B1_some, B1_some, if_neg k10, if_neg k10, hw.c19, hw.m16, hw.c22, hw.m34]
        have e12 : (nI n = 12) ↔ n = 12 := nI_eq (b := 12) (by omega) (by decide)
        by_cases h12 : n = 12
        · rw [if_pos (e12.mpr h12), if_pos (e12.mpr h12)]
          exact h.same _
        · rw [if_neg (fun g => h12 (e12.mp g)), if_neg (fun g => h12 (e12.mp g))]
          by_cases h60 : N = 60
          · rw [if_pos ((e60 hw.1.2.2.1).mpr h60), if_pos ((e60 hw.1.2.2.1).mpr h60)]
            exact h.same _
          · have hN : N < 60 := by have := hw.1.2.2.1; omega
            have hn12 : n < 12 := by omega
            obtain ⟨⟨z1, z2, z3⟩, z20, z23, z26, z28, zw⟩ := hw.2.2.2.1.2 n (Nat.le_refl _) hn12
            have hno : ¬ ((cL σ (120 + n)).isSome = true ∨ (cL σ (140 + n)).isSome = true ∨ (cL σ (160 + n)).isSome = true) := by
              rw [z1, z2, z3]
              simp
            have x3 : (if nI kd = 3 then (some (-18) : Option Int32) else some 5) = some (if kd = 3 then -18 else 5) := by
              have : kd = 0 ∨ kd = 1 ∨ kd = 2 ∨ kd = 3 := by omega
              rcases this with rfl | rfl | rfl | rfl <;> decide
            rw [if_neg (fun g => h60 ((e60 hw.1.2.2.1).mp g)), if_neg (fun g => h60 ((e60 hw.1.2.2.1).mp g)), ixA_is hn12 (by decide), B1_some, if_neg hno, nI_clamp (by omega)]
            have h22 : cI (sI (trNew σ n kd (nI y) (nI wv)) 19 (nI n + 1)) 22 = nI N := hw.c22
            rw [cent_is hN h22, B1_some]
            simp only [wrA_nI hn12 l12, B1_some, cI_sA, hw.m16, x3]
            have h34 : cI (mNew τ n (nI kd) (nI y) (nI wv) (if kd = 3 then -18 else 5)) 34 = nI N := hw.m34
            rw [ment_is hN h34, B1_some]
            have r16 : cI (entM (mNew τ n (nI kd) (nI y) (nI wv) (if kd = 3 then -18 else 5)) N (nI n) 0 (nI y) (nI y)) 16 = nI n := hw.m16
            rw [r16, cI_sI, if_pos rfl, nI_1, show nI (n + 1) - 1 = nI n from nI_pred n, entC_sI]
            refine ⟨_, _, rfl, rfl, rfl, hw.mk3 (w' := w) (n' := n + 1) (N' := N + 1) (Mid.wI (Mid.ent (((((((Mid.rfl.wAr (by omega)).wAr (by omega)).wAr (by omega)).wL (by omega)).wL (by omega)).wL (by omega))))) (MidM.wI (MidM.ent ((((((MidM.rfl.wA (by decide)).wA (by decide)).wA (by decide)).wA (by decide)).wA (by decide)).wA (by decide))) (by decide)) (Req.wI (Req.ent (Req.yA (Req.yA (Req.yA (Req.yA (Req.yA (Req.yA (Req.xL (Req.xL (Req.xL (Req.xAr (Req.xAr (Req.xAr h.eq (eqA_hi (by omega))) (eqA_hi (by omega))) (eqA_hi (by omega)))))) (by decide)) (by decide)) (by decide)) (by decide)) (by decide)) (by decide)) rfl rfl rfl rfl) (by decide) rfl) ⟨hw.1.1, by omega, by omega, hw.1.2.2.2.1, hw.m5, rfl, rfl, hw.1.2.2.2.2.2.2.2⟩ ?_ ?_ ?_ ?_⟩
            · exact Rtr.up (Rtr.new hw.2.2.2.1 hn12 (by omega)) (Up.wI (Up.ent Up.rfl)) (Dn.wI (Dn.ent Dn.rfl))
            · exact Bk.new hw.2.2.2.2.2.2.1 hn12 hw.now hy z26 z20
            · exact Tk.new hw.2.2.2.2.2.2.2.1 hy z20
            · intro t ht
              show isN (cA τ 23 t) 6 ∧ isN (upd (cA τ 21) n (nI wv) t) 100000 ∧ ∃ a, 60 ≤ a ∧ a ≤ 120 ∧ upd (cA τ 22) n 100 t = nI a
              by_cases g : t = n
              · subst g
                rw [upd_at, upd_at]
                exact ⟨⟨0, by decide, z23⟩, ⟨wv, hwv, rfl⟩, 100, by decide, by decide, rfl⟩
              · rw [upd_ne _ g, upd_ne _ g]
                exact hw.2.2.2.2.2.2.2.2.1 t (by omega)
      · rw [e5, e6, B1_some, B1_some, if_pos k00, if_pos k00]
        exact h.same _
    · rw [e3, e4, B1_some, B1_some, if_pos k00, if_pos k00]
      exact h.same _
  · rw [e1, B1_some, B1_some, if_pos k00, if_pos k00]
    exact h.same _
/-! where -/
theorem rdA_eq {n k j : Nat} (h : cA σ k = cA τ j) (i : Int32) : rdA n σ k i = rdA n τ j i := by
  unfold rdA
  rw [h]
theorem rdA_cs (n : Nat) (σ : St) (k : Nat) (i : Int32) : rdA n σ k i = none ∨ (¬ (i < 0 ∨ n ≤ i.toNatClampNeg) ∧ rdA n σ k i = some (cA σ k i.toNatClampNeg)) := by
  unfold rdA
  by_cases h : i < 0 ∨ n ≤ i.toNatClampNeg
  · rw [if_pos h]; exact Or.inl rfl
  · rw [if_neg h]; exact Or.inr ⟨h, rfl⟩
theorem rdA_is {n : Nat} {σ : St} {k : Nat} {i : Int32} (h : ¬ (i < 0 ∨ n ≤ i.toNatClampNeg)) : rdA n σ k i = some (cA σ k i.toNatClampNeg) := by
  unfold rdA
  rw [if_neg h]
theorem rdA_no {n : Nat} {σ : St} {k : Nat} {i : Int32} (h : i < 0 ∨ n ≤ i.toNatClampNeg) : rdA n σ k i = none := by
  unfold rdA
  rw [if_pos h]
theorem where_eq (h : Req σ τ) (a b : Int32) : c_where_L5 σ a b = m_where_L5 τ a b := by
  funext x e
  unfold c_where_L5 m_where_L5
  rw [h.I 22 34 (by decide)]
  by_cases h0 : cI τ 34 ≤ e
  · rw [if_pos h0, if_pos h0]
  · rw [if_neg h0, if_neg h0]
    by_cases hi : e < 0 ∨ 60 ≤ e.toNatClampNeg
    · simp only [rdA_no hi, B1_none]
    · simp only [rdA_is hi, B1_some, h.A 23 35 (by decide), h.A 24 36 (by decide), h.A 25 37 (by decide), h.A 26 38 (by decide)]
      by_cases h1 : cA τ 35 e.toNatClampNeg = a
      · simp only [if_pos h1]
        by_cases h2 : 3 ≤ cA τ 36 e.toNatClampNeg
        · simp only [if_pos h2]
          by_cases h3 : b < cA τ 37 e.toNatClampNeg
          · simp only [if_pos h3]
          · simp only [if_neg h3]
        · simp only [if_neg h2]
      · simp only [if_neg h1]
theorem where_tot (h : R σ τ) (a b : Int32) : ∃ x, lq2 (m_where_L5 τ a b) (-9) 0 = some x := by
  obtain ⟨w, n, N, q, hw⟩ := h.rw
  have hN := hw.1.2.2.1
  have key : ∃ r, lq2 (m_where_L5 τ a b) (-9) 0 = some r ∧ True := by
    unfold lq2
    refine lp_forI N (fun e (p : Int32 × Int32) => e ≤ N ∧ p.2 = nI e) _ ?_ (i := 0) ⟨by omega, nI_0.symm⟩
    rintro e ⟨x, y⟩ ⟨he, hy⟩
    dsimp only at hy
    subst hy
    by_cases hN2 : e = N
    · subst hN2
      refine Or.inr ⟨x, ?_, trivial⟩
      show m_where_L5 τ a b x (nI e) = _
      unfold m_where_L5
      rw [hw.m34, if_pos (nI_le (Nat.le_refl _) (by omega))]
    · have he2 : e < N := by omega
      have he60 : e < 60 := by omega
      have : ∃ x', m_where_L5 τ a b x (nI e) = some (Sum.inl (x', nI e + 1)) := by
        unfold m_where_L5
        rw [hw.m34, if_neg (nI_ge he2 (by omega))]
        simp only [rdA_nI he60 l60, B1_some]
        by_cases h1 : cA τ 35 e = a
        · simp only [if_pos h1]
          by_cases h3 : b < cA τ 37 e
          · simp only [if_pos h3, B1_some]; exact ⟨_, rfl⟩
          · simp only [if_neg h3]
            by_cases h2 : 3 ≤ cA τ 36 e
            · simp only [if_pos h2, B1_some]; exact ⟨_, rfl⟩
            · simp only [if_neg h2]
              by_cases h4 : cA τ 36 e = 0
              · simp only [if_pos h4, B1_some]; exact ⟨_, rfl⟩
              · simp only [if_neg h4]
                by_cases h5 : cA τ 36 e = 1
                · simp only [if_pos h5, B1_some]; exact ⟨_, rfl⟩
                · simp only [if_neg h5, B1_some]; exact ⟨_, rfl⟩
        · simp only [if_neg h1, B1_some]; exact ⟨_, rfl⟩
      obtain ⟨x', k⟩ := this
      exact Or.inl ⟨he2, (x', nI e + 1), k, by omega, nI_1 e⟩
  obtain ⟨r, k, -⟩ := key
  exact ⟨r, k⟩
theorem s_where (h : R σ τ) (a b : Int32) : Sim (c_where σ a b) (m_where τ a b) Eq := by
  unfold c_where m_where
  rcases h.tcase a with ⟨n, t, hn, e16, ht, rfl, e1, e2, hT⟩ | ⟨e1, e2⟩
  · rw [e1, e2, B1_some, B1_some, if_neg k10, if_neg k10, m_in_c, h.eq.I 11 5 (by decide)]
    rcases in_cases b 0 (cI τ 5) with ⟨-, -, e3⟩ | ⟨-, e3⟩
    · obtain ⟨x, hx⟩ := where_tot h (nI t) b
      rw [e3, B1_some, B1_some, if_neg k10, if_neg k10, where_eq h.eq, hx, B1_some]
      exact ⟨_, _, rfl, rfl, rfl⟩
    · rw [e3, B1_some, B1_some, if_pos k00, if_pos k00]
      exact ⟨_, _, rfl, rfl, rfl⟩
  · rw [e1, e2, B1_some, B1_some, if_pos k00, if_pos k00]
    exact ⟨_, _, rfl, rfl, rfl⟩
/-! mark -/
theorem s_mark (h : R σ τ) (a b : Int32) : Sim (c_mark σ a b) (m_mark τ a b) Rq := by
  obtain ⟨w, n, N, q, hw⟩ := h.rw
  have hn := hw.1.2.1
  have hN := hw.1.2.2.1
  unfold c_mark m_mark
  rcases hw.tcase a with ⟨t, ht, rfl, e3, e4, hT⟩ | ⟨e3, e4⟩
  · obtain ⟨kd, hkd, hL, h17, -, -, hnum, hF, -⟩ := hT
    have ht12 : t < 12 := by omega
    rw [e3, e4, B1_some, B1_some, if_neg k10, if_neg k10, m_in_c]
    rcases in_cases b 1 3 with ⟨b1, b2, e5⟩ | ⟨-, e5⟩
    · have hb : ∃ s, (s = 1 ∨ s = 2 ∨ s = 3) ∧ b = nI s := by
        obtain ⟨j, hj, rfl⟩ := nI_of2 (M := 3) (n := 3) (by decide) (fun q => b1 (by
          rw [i32_lt] at q ⊢
          have e0 : (0 : Int32).toInt = 0 := by decide
          have e1 : (1 : Int32).toInt = 1 := by decide
          omega)) (Int32.not_lt.mp b2)
        rw [i32_lt, nI_toInt (by omega)] at b1
        have e1 : (1 : Int32).toInt = 1 := by decide
        exact ⟨j, by omega, rfl⟩
      obtain ⟨s, hs, rfl⟩ := hb
      rw [e5, B1_some, B1_some, if_neg k10, if_neg k10, ixD_is ht12 (by decide) hL, B1_some, hL, B1_some, rdA_nI ht12 (by decide), B1_some, h17]
      have hks : (nI kd = nI s) ↔ kd = s := nI_eq (by omega) (by omega)
      rcases hs with rfl | rfl | rfl
      · -- as a cold one
        have c1 : (nI 1 : Int32) = 1 := rfl
        rw [cold_is ht12 hkd h17, B1_some]
        by_cases hc : kd = 1 ∨ kd = 3
        · have hok : okT kd 11 = true := by rcases hc with rfl | rfl <;> rfl
          have f11 := hF (11, 27) (by decide) hok
          dsimp only at f11
          have hm : m_mark_K7 (nI t) (nI 1) τ = some (cA τ 27 t, τ) := by
            unfold m_mark_K7
            rw [if_pos c1, rdA_nI ht12 (by decide), B1_some, B1_some]
          rw [if_pos c1, if_pos hc, rdT_is hL hok, B1_some, decide_eq_true hc, b01_t, if_neg k10, hm, f11]
          by_cases g : nI kd = nI 1
          · rw [if_pos g]; exact h.same _
          · rw [if_neg g, if_pos c1]; exact h.same _
        · have hne : ¬ nI kd = nI 1 := fun g => hc (Or.inl (hks.mp g))
          rw [if_pos c1, if_neg hc, if_neg hne, if_pos c1, decide_eq_false hc, b01_f, if_pos k00]
          exact found_meets1 h (f := 3) (by decide) rfl
      · -- as a rented one
        have n1 : ¬ (nI 2 : Int32) = 1 := by decide
        have c2 : (nI 2 : Int32) = 2 := rfl
        rw [if_neg n1, if_neg n1, if_pos c2]
        by_cases hc : kd = 2
        · obtain ⟨e, he, g1, g2, g3⟩ := hw.2.2.2.2.2.2.1.2.1 t ht
          have he60 : e < 60 := by omega
          have hnx : nxt (cA τ 35) (nI t) N 0 = some e := nxt_first N 0 e (by omega) (by omega) g1 (fun j _ hj => g3 j hj)
          have hE : c_entryOf σ (nI t) 0 = some (nI e) := by
            have := entryOf_is hN hw.c22 (nI t) (i := 0) (by decide)
            rw [scn_0, h.eq.A 23 35 (by decide), hnx] at this
            exact this
          have hF2 : m_entryFrom τ (nI t) 0 = some (nI e) := by
            have := entryFrom_is hN hw.m34 (nI t) (k := 0) (by omega)
            rw [Nat.sub_zero, hnx] at this
            exact this
          have hm : m_mark_K7 (nI t) (nI 2) τ = some (cI τ 5 / 1440 - cA τ 37 e / 1440, τ) := by
            unfold m_mark_K7 m_day
            rw [if_neg n1, if_pos c2, B1_some, hF2, B1_some, rdA_nI he60 (by decide), B1_some, B1_some, B1_some]
          rw [if_pos hc, if_pos (hks.mpr hc), hm]
          unfold tr_mark
          rw [hnum, hE, B1_some, rdA_nI he60 (by decide), B1_some, B1_some, h.eq.I 11 5 (by decide), h.eq.A 25 37 (by decide)]
          exact h.same _
        · rw [if_neg hc, if_neg (fun g => hc (hks.mp g))]
          exact found_meets1 h (f := 3) (by decide) rfl
      · -- as a frozen one
        have n1 : ¬ (nI 3 : Int32) = 1 := by decide
        have n2 : ¬ (nI 3 : Int32) = 2 := by decide
        rw [if_neg n1, if_neg n1, if_neg n2]
        by_cases hc : kd = 3
        · have hok : okT kd 13 = true := by rw [hc]; rfl
          have f13 := hF (13, 28) (by decide) hok
          dsimp only at f13
          have hm : m_mark_K7 (nI t) (nI 3) τ = some (cA τ 28 t, τ) := by
            unfold m_mark_K7
            rw [if_neg n1, if_neg n2, rdA_nI ht12 (by decide), B1_some, B1_some]
          rw [if_pos hc, if_pos (hks.mpr hc), hm, rdT_is hL hok, B1_some, f13]
          exact h.same _
        · rw [if_neg hc, if_neg (fun g => hc (hks.mp g))]
          exact found_meets1 h (f := 3) (by decide) rfl
    · rw [e5, B1_some, B1_some, if_pos k00, if_pos k00]
      exact h.same _
  · rw [e3, e4, B1_some, B1_some, if_pos k00, if_pos k00]
    exact h.same _
end Ops6
