/-! plain law: ways, trailers -/
theorem upd_same (f : Nat → Int32) {i : Nat} {v : Int32} (h : f i = v) : upd f i v = f := by
  funext j
  by_cases q : j = i
  · subst q
    rw [upd_at, h]
  · rw [upd_ne _ q]
section Ops2
variable {σ σ' τ τ' : St}
theorem both_is (σ : St) (k : Nat) {a b : Nat} (ha : a < 8) (hb : b < 8) (v : Int32) : c_both σ k (nI a) (nI b) v = some (sA (sA σ k (8 * a + b) v) k (8 * b + a) v) := by
  unfold c_both
  rw [ix8, ix8, wrA_nI (by omega) (by decide), B1_some, wrA_nI (by omega) (by decide), B1_some]
theorem setWay_is (τ : St) {a b : Nat} (ha : a < 8) (hb : b < 8) (m t e f : Int32) : m_setWay τ (nI a) (nI b) m t e f = some (sA (sA (sA (sA τ 11 (8 * a + b) m) 12 (8 * a + b) t) 13 (8 * a + b) e) 14 (8 * a + b) f) := by
  unfold m_setWay
  rw [ix8, wrA_nI (by omega) (by decide), B1_some, wrA_nI (by omega) (by decide), B1_some, wrA_nI (by omega) (by decide), B1_some, wrA_nI (by omega) (by decide), B1_some]
theorem R.wset (h : R σ τ) (ci : ∀ k, cI σ' k = cI σ k) (cj : ∀ k, cJ σ' k = cJ σ k) (cl : ∀ k, cL σ' k = cL σ k) (ca : ∀ k, k ≠ 12 → k ≠ 13 → k ≠ 14 → k ≠ 15 → cA σ' k = cA σ k) (mi : ∀ k, cI τ' k = cI τ k) (mj : ∀ k, cJ τ' k = cJ τ k) (ma : ∀ k, k ≠ 11 → k ≠ 12 → k ≠ 13 → k ≠ 14 → cA τ' k = cA τ k)
    (e1 : cA σ' 12 = cA τ' 11) (e2 : cA σ' 13 = cA τ' 12) (e3 : cA σ' 14 = cA τ' 13) (e4 : cA σ' 15 = cA τ' 14) (hw : Wy (cA τ' 11) (cA τ' 12) (cA τ' 13) (cA τ' 14)) : R σ' τ' := by
  obtain ⟨w, n, N, q, h1, h2, h3, h4, h5, h6, h7, h8, h9, h10⟩ := h
  have hU : Up σ σ' := ⟨cl, fun k hk => ca k (by omega) (by omega) (by omega) (by omega)⟩
  have hD : Dn τ τ' := fun k hk => by
    have : ∀ k ∈ dynM, 17 ≤ k := by decide
    have := this k hk
    exact ma k (by omega) (by omega) (by omega) (by omega)
  refine ⟨w, n, N, q, ?_, ⟨fun p hp => by rw [ci, mi]; exact h2.1 p hp, fun p hp => by rw [cj, mj]; exact h2.2.1 p hp, fun p hp => ?_⟩, ?_, h4.up hU hD, ?_, ?_, ?_, ?_, ?_, hw⟩
  · unfold Cn
    rw [mi, mi, mi, mi]
    exact h1
  · have hcs : ∀ p ∈ eqA, p = (12, 11) ∨ p = (13, 12) ∨ p = (14, 13) ∨ p = (15, 14) ∨ ((p.1 ≠ 12 ∧ p.1 ≠ 13 ∧ p.1 ≠ 14 ∧ p.1 ≠ 15) ∧ p.2 ≠ 11 ∧ p.2 ≠ 12 ∧ p.2 ≠ 13 ∧ p.2 ≠ 14) := by decide
    rcases hcs p hp with rfl | rfl | rfl | rfl | ⟨⟨a1, a2, a3, a4⟩, b1, b2, b3, b4⟩
    · exact e1
    · exact e2
    · exact e3
    · exact e4
    · rw [ca _ a1 a2 a3 a4, ma _ b1 b2 b3 b4]
      exact h2.2.2 p hp
  · rw [ma 6 (by decide) (by decide) (by decide) (by decide), ma 7 (by decide) (by decide) (by decide) (by decide), ma 9 (by decide) (by decide) (by decide) (by decide), ma 10 (by decide) (by decide) (by decide) (by decide)]
    exact ⟨h3.1.up (by decide) hU, h3.2.up (by decide) hU⟩
  · rw [ca 36 (by decide) (by decide) (by decide) (by decide), ca 37 (by decide) (by decide) (by decide) (by decide), ca 38 (by decide) (by decide) (by decide) (by decide), ca 39 (by decide) (by decide) (by decide) (by decide), ma 43 (by decide) (by decide) (by decide) (by decide), ma 41 (by decide) (by decide) (by decide) (by decide), ma 42 (by decide) (by decide) (by decide) (by decide)]
    exact h5
  · rw [mi, mi, ca 48 (by decide) (by decide) (by decide) (by decide), ma 59 (by decide) (by decide) (by decide) (by decide)]
    exact h6
  · rw [ma 35 (by decide) (by decide) (by decide) (by decide), ma 36 (by decide) (by decide) (by decide) (by decide), ma 37 (by decide) (by decide) (by decide) (by decide), ma 38 (by decide) (by decide) (by decide) (by decide), ma 39 (by decide) (by decide) (by decide) (by decide), ma 20 (by decide) (by decide) (by decide) (by decide), ma 26 (by decide) (by decide) (by decide) (by decide)]
    exact h7
  · rw [ma 18 (by decide) (by decide) (by decide) (by decide), ma 19 (by decide) (by decide) (by decide) (by decide), ma 20 (by decide) (by decide) (by decide) (by decide), ma 29 (by decide) (by decide) (by decide) (by decide), ma 30 (by decide) (by decide) (by decide) (by decide), ma 31 (by decide) (by decide) (by decide) (by decide)]
    exact h8
  · rw [ma 21 (by decide) (by decide) (by decide) (by decide), ma 22 (by decide) (by decide) (by decide) (by decide), ma 23 (by decide) (by decide) (by decide) (by decide)]
    exact h9
/-- two places of a table of ways change -/
def upd2 (f : Nat → Int32) (a b : Nat) (v : Int32) : Nat → Int32 := upd (upd f (8 * a + b) v) (8 * b + a) v
theorem upd2_in (f : Nat → Int32) {a b : Nat} {v : Int32} {k : Nat} (h : k = 8 * a + b ∨ k = 8 * b + a) : upd2 f a b v k = v := by
  unfold upd2
  by_cases q : k = 8 * b + a
  · rw [q, upd_at]
  · rw [upd_ne _ q, h.resolve_right q, upd_at]
theorem upd2_out (f : Nat → Int32) {a b : Nat} {v : Int32} {k : Nat} (h1 : k ≠ 8 * a + b) (h2 : k ≠ 8 * b + a) : upd2 f a b v k = f k := by
  unfold upd2
  rw [upd_ne _ h2, upd_ne _ h1]
theorem upd2_sym (f : Nat → Int32) {a b : Nat} {v : Int32} (ha : a < 8) (hb : b < 8) (hf : ∀ x y, x < 8 → y < 8 → f (8 * x + y) = f (8 * y + x)) {x y : Nat} (hx : x < 8) (hy : y < 8) : upd2 f a b v (8 * x + y) = upd2 f a b v (8 * y + x) := by
  by_cases q : (x = a ∧ y = b) ∨ (x = b ∧ y = a)
  · rw [upd2_in f (by omega), upd2_in f (by omega)]
  · rw [upd2_out f (by omega) (by omega), upd2_out f (by omega) (by omega)]
    exact hf x y hx hy
theorem Wy.set {mi tl ev fi : Nat → Int32} (h : Wy mi tl ev fi) {a b m t e f : Nat} (ha : a < 8) (hb : b < 8) (hab : a ≠ b) (hm : m ≤ 600) (ht : t ≤ 999) (he : e ≤ 1440) (h0 : e = 0 → f = 0) (h1 : 0 < e → f < e) : Wy (upd2 mi a b (nI m)) (upd2 tl a b (nI t)) (upd2 ev a b (nI e)) (upd2 fi a b (nI f)) := by
  refine ⟨fun k hk => ?_, fun x y hx hy => ⟨upd2_sym mi ha hb (fun x y hx hy => (h.2.1 x y hx hy).1) hx hy, upd2_sym tl ha hb (fun x y hx hy => (h.2.1 x y hx hy).2) hx hy⟩, fun x hx => ?_⟩
  · by_cases q : k = 8 * a + b ∨ k = 8 * b + a
    · exact ⟨m, t, e, f, hm, ht, he, upd2_in mi q, upd2_in tl q, upd2_in ev q, upd2_in fi q, h0, h1⟩
    · have q1 : k ≠ 8 * a + b := fun r => q (Or.inl r)
      have q2 : k ≠ 8 * b + a := fun r => q (Or.inr r)
      unfold wyOk
      rw [upd2_out mi q1 q2, upd2_out tl q1 q2, upd2_out ev q1 q2, upd2_out fi q1 q2]
      exact h.1 k hk
  · rw [upd2_out mi (by omega) (by omega)]
    exact h.2.2 x hx
theorem s_way (h : R σ τ) (a b c d : Int32) : Sim (c_way σ a b c d) (m_way τ a b c d) Rq := by
  unfold c_way m_way
  rcases yard_cases a with ⟨x, hx, rfl, e1, e2⟩ | ⟨-, e1, e2⟩
  · rw [e1, e2, B1_some, B1_some, if_neg k10, if_neg k10]
    rcases yard_cases b with ⟨y, hy, rfl, e3, e4⟩ | ⟨-, e3, e4⟩
    · rw [e3, e4, B1_some, B1_some, if_neg k10, if_neg k10]
      by_cases hxy : x = y
      · subst hxy
        rw [if_pos rfl, if_pos rfl]
        exact h.same _
      · have hne : ¬ nI x = nI y := fun q => hxy ((nI_eq (by omega) (by omega)).mp q)
        rw [if_neg hne, if_neg hne, m_in_c, m_in_c]
        rcases in_cases c 1 600 with ⟨c1, c2, e5⟩ | ⟨-, e5⟩
        · obtain ⟨m, hm, rfl⟩ := nI_of2 (M := 600) (n := 600) (by decide) (fun q => c1 (by
            rw [i32_lt] at q ⊢
            have e0 : (0 : Int32).toInt = 0 := by decide
            have e1 : (1 : Int32).toInt = 1 := by decide
            omega)) (Int32.not_lt.mp c2)
          rw [e5, B1_some, B1_some, if_neg k10, if_neg k10]
          rcases rng_cases d 999 (N := 999) (by decide) with ⟨t, ht, rfl, e6⟩ | ⟨-, e6⟩
          · rw [e6, B1_some, B1_some, if_neg k10, if_neg k10, both_is σ 12 hx hy, B1_some, both_is _ 13 hx hy, B1_some, both_is _ 14 hx hy, B1_some, both_is _ 15 hx hy, B1_some, setWay_is τ hx hy, B1_some, setWay_is _ hy hx, B1_some]
            have hq := h.eq
            have hWy : Wy (cA τ 11) (cA τ 12) (cA τ 13) (cA τ 14) := by
              obtain ⟨w, n, N, q, h1, h2, h3, h4, h5, h6, h7, h8, h9, h10⟩ := h
              exact h10
            refine ⟨_, _, rfl, rfl, rfl, h.wset (fun k => rfl) (fun k => rfl) (fun k => rfl) (fun k g1 g2 g3 g4 => ?_) (fun k => rfl) (fun k => rfl) (fun k g1 g2 g3 g4 => ?_) ?_ ?_ ?_ ?_ ?_⟩
            · simp only [cA_sA, if_neg g1, if_neg g2, if_neg g3, if_neg g4]
            · simp only [cA_sA, if_neg g1, if_neg g2, if_neg g3, if_neg g4]
            · show upd2 (cA σ 12) x y (nI m) = upd2 (cA τ 11) x y (nI m)
              rw [hq.A 12 11 (by decide)]
            · show upd2 (cA σ 13) x y (nI t) = upd2 (cA τ 12) x y (nI t)
              rw [hq.A 13 12 (by decide)]
            · show upd2 (cA σ 14) x y 0 = upd2 (cA τ 13) x y 0
              rw [hq.A 14 13 (by decide)]
            · show upd2 (cA σ 15) x y 0 = upd2 (cA τ 14) x y 0
              rw [hq.A 15 14 (by decide)]
            · exact hWy.set (e := 0) (f := 0) hx hy hxy hm ht (by decide) (fun _ => rfl) (fun q => absurd q (by decide))
          · rw [e6, B1_some, B1_some, if_pos k00, if_pos k00]
            exact h.same _
        · rw [e5, B1_some, B1_some, if_pos k00, if_pos k00]
          exact h.same _
    · rw [e3, e4, B1_some, B1_some, if_pos k00, if_pos k00]
      exact h.same _
  · rw [e1, e2, B1_some, B1_some, if_pos k00, if_pos k00]
    exact h.same _
theorem s_ferry (h : R σ τ) (a b c d : Int32) : Sim (c_ferry σ a b c d) (m_ferry τ a b c d) Rq := by
  unfold c_ferry m_ferry
  rcases yard_cases a with ⟨x, hx, rfl, e1, e2⟩ | ⟨-, e1, e2⟩
  · rw [e1, e2, B1_some, B1_some, if_neg k10, if_neg k10]
    rcases yard_cases b with ⟨y, hy, rfl, e3, e4⟩ | ⟨-, e3, e4⟩
    · rw [e3, e4, B1_some, B1_some, if_neg k10, if_neg k10, m_in_c, m_in_c]
      rcases in_cases c 1 1440 with ⟨c1, c2, e5⟩ | ⟨-, e5⟩
      · obtain ⟨e, he, rfl⟩ := nI_of2 (M := 1440) (n := 1440) (by decide) (fun q => c1 (by
          rw [i32_lt] at q ⊢
          have e0 : (0 : Int32).toInt = 0 := by decide
          have e1 : (1 : Int32).toInt = 1 := by decide
          omega)) (Int32.not_lt.mp c2)
        have he0 : 0 < e := by
          rw [i32_lt, nI_toInt (by omega)] at c1
          have e1 : (1 : Int32).toInt = 1 := by decide
          omega
        rw [e5, B1_some, B1_some, if_neg k10, if_neg k10]
        rcases cnt_cases d (nI e) rfl (by omega) with ⟨f, hf, rfl, e6⟩ | ⟨-, e6⟩
        · have hq := h.eq
          have hWy : Wy (cA τ 11) (cA τ 12) (cA τ 13) (cA τ 14) := by
            obtain ⟨w, n, N, q, h1, h2, h3, h4, h5, h6, h7, h8, h9, h10⟩ := h
            exact h10
          have hk : 8 * x + y < 64 := by omega
          rw [e6, B1_some, B1_some, if_neg k10, if_neg k10, ix8, rdA_nI hk (by decide), rdA_nI hk (by decide), B1_some, B1_some, hq.A 12 11 (by decide)]
          by_cases h0 : cA τ 11 (8 * x + y) = 0
          · rw [if_pos h0, if_pos h0]
            exact found_meets2 h (f := 1) (by decide) rfl
          · have hxy : x ≠ y := fun q => by
              subst q
              exact h0 (hWy.2.2 x hx)
            rw [if_neg h0, if_neg h0, both_is σ 14 hx hy, B1_some, both_is _ 15 hx hy, B1_some, B1_some, rdA_nI hk (by decide), B1_some, setWay_is τ hx hy, B1_some, rdA_nI hk (by decide), B1_some, rdA_nI hk (by decide), B1_some, setWay_is _ hy hx, B1_some]
            obtain ⟨s1, s2⟩ := hWy.2.1 y x hy hx
            have u11 : upd2 (cA τ 11) x y (cA τ 11 (8 * x + y)) = cA τ 11 := by
              unfold upd2
              rw [upd_same _ rfl, upd_same _ s1]
            have u12 : upd2 (cA τ 12) x y (cA τ 12 (8 * x + y)) = cA τ 12 := by
              unfold upd2
              rw [upd_same _ rfl, upd_same _ s2]
            have r11 : cA (sA (sA (sA (sA τ 11 (8 * x + y) (cA τ 11 (8 * x + y))) 12 (8 * x + y) (cA τ 12 (8 * x + y))) 13 (8 * x + y) (nI e)) 14 (8 * x + y) (nI f)) 11 (8 * x + y) = cA τ 11 (8 * x + y) := by
              show upd (cA τ 11) (8 * x + y) (cA τ 11 (8 * x + y)) (8 * x + y) = _
              rw [upd_at]
            have r12 : cA (sA (sA (sA (sA τ 11 (8 * x + y) (cA τ 11 (8 * x + y))) 12 (8 * x + y) (cA τ 12 (8 * x + y))) 13 (8 * x + y) (nI e)) 14 (8 * x + y) (nI f)) 12 (8 * x + y) = cA τ 12 (8 * x + y) := by
              show upd (cA τ 12) (8 * x + y) (cA τ 12 (8 * x + y)) (8 * x + y) = _
              rw [upd_at]
            rw [r11, r12]
            obtain ⟨m, t, e0, f0, g1, g2, g3, g4, g5, -⟩ := hWy.1 _ hk
            refine ⟨_, _, rfl, rfl, rfl, h.wset (fun k => rfl) (fun k => rfl) (fun k => rfl) (fun k g1 g2 g3 g4 => ?_) (fun k => rfl) (fun k => rfl) (fun k g1 g2 g3 g4 => ?_) ?_ ?_ ?_ ?_ ?_⟩
            · simp only [cA_sA, if_neg g1, if_neg g2, if_neg g3, if_neg g4]
            · simp only [cA_sA, if_neg g1, if_neg g2, if_neg g3, if_neg g4]
            · show cA σ 12 = upd2 (cA τ 11) x y (cA τ 11 (8 * x + y))
              rw [u11, hq.A 12 11 (by decide)]
            · show cA σ 13 = upd2 (cA τ 12) x y (cA τ 12 (8 * x + y))
              rw [u12, hq.A 13 12 (by decide)]
            · show upd2 (cA σ 14) x y (nI e) = upd2 (cA τ 13) x y (nI e)
              rw [hq.A 14 13 (by decide)]
            · show upd2 (cA σ 15) x y (nI f) = upd2 (cA τ 14) x y (nI f)
              rw [hq.A 15 14 (by decide)]
            · show Wy (upd2 (cA τ 11) x y (cA τ 11 (8 * x + y))) (upd2 (cA τ 12) x y (cA τ 12 (8 * x + y))) (upd2 (cA τ 13) x y (nI e)) (upd2 (cA τ 14) x y (nI f))
              rw [g4, g5]
              exact hWy.set hx hy hxy g1 g2 he (fun q => by omega) (fun _ => hf)
        · rw [e6, B1_some, B1_some, if_pos k00, if_pos k00]
          exact h.same _
      · rw [e5, B1_some, B1_some, if_pos k00, if_pos k00]
        exact h.same _
    · rw [e3, e4, B1_some, B1_some, if_pos k00, if_pos k00]
      exact h.same _
  · rw [e1, e2, B1_some, B1_some, if_pos k00, if_pos k00]
    exact h.same _
/-! trailers tell -/
theorem tells_is {t : Nat} (h : Tr1 (cL σ) (cA σ) (cA τ) t) (ht : t < 12) (b : Int32) : ∃ v, c_tells σ (120 + t) b = some v ∧ m_trailerTells τ (nI t) b = some v := by
  obtain ⟨kd, hkd, hL, h17, -, -, -, hF, -⟩ := h
  have f1 := hF (1, 21) (by decide) (okT_lo (by decide))
  have f2 := hF (2, 18) (by decide) (okT_lo (by decide))
  have f3 := hF (3, 19) (by decide) (okT_lo (by decide))
  have f4 := hF (4, 20) (by decide) (okT_lo (by decide))
  have f5 := hF (5, 26) (by decide) (okT_lo (by decide))
  have f6 := hF (6, 22) (by decide) (okT_lo (by decide))
  have f7 := hF (7, 23) (by decide) (okT_lo (by decide))
  dsimp only at f1 f2 f3 f4 f5 f6 f7
  unfold c_tells m_trailerTells
  simp only [rdA_nI ht (show 12 < 2 ^ 31 by decide), B1_some, rdT_is hL (okT_lo (show 1 < 8 by decide)), rdT_is hL (okT_lo (show 2 < 8 by decide)), rdT_is hL (okT_lo (show 3 < 8 by decide)), rdT_is hL (okT_lo (show 4 < 8 by decide)), rdT_is hL (okT_lo (show 5 < 8 by decide)), rdT_is hL (okT_lo (show 6 < 8 by decide)), rdT_is hL (okT_lo (show 7 < 8 by decide)), hL, h17, f1, f2, f3, f4, f5, f6, f7]
  by_cases h0 : b = 0
  · simp only [if_pos h0]; exact ⟨_, rfl, rfl⟩
  simp only [if_neg h0]
  by_cases h1 : b = 1
  · simp only [if_pos h1]; exact ⟨_, rfl, rfl⟩
  simp only [if_neg h1]
  by_cases h2 : b = 2
  · simp only [if_pos h2]; exact ⟨_, rfl, rfl⟩
  simp only [if_neg h2]
  by_cases h3 : b = 3
  · simp only [if_pos h3]
    by_cases g : cA τ 20 t = 0
    · simp only [if_pos g, B1_some]; exact ⟨_, rfl, rfl⟩
    · simp only [if_neg g, B1_some]; exact ⟨_, rfl, rfl⟩
  simp only [if_neg h3]
  by_cases h4 : b = 4
  · simp only [if_pos h4]; exact ⟨_, rfl, rfl⟩
  simp only [if_neg h4]
  by_cases h5 : b = 5
  · simp only [if_pos h5]; exact ⟨_, rfl, rfl⟩
  simp only [if_neg h5]
  by_cases h6 : b = 6
  · simp only [if_pos h6]; exact ⟨_, rfl, rfl⟩
  simp only [if_neg h6]
  by_cases g : cA τ 26 t = 0
  · simp only [if_pos g, B1_some]; exact ⟨_, rfl, rfl⟩
  · simp only [if_neg g, B1_some]; exact ⟨_, rfl, rfl⟩
/-- a trailer of both sides, or none -/
theorem R.tcase (h : R σ τ) (a : Int32) : (∃ n j, n ≤ 12 ∧ cI τ 16 = nI n ∧ j < n ∧ a = nI j ∧ c_isTrailer σ a = some 1 ∧ m_isTrailer τ a = some 1 ∧ Tr1 (cL σ) (cA σ) (cA τ) j) ∨ (c_isTrailer σ a = some 0 ∧ m_isTrailer τ a = some 0) := by
  have hq := h.eq
  obtain ⟨w, n, N, q, h1, h2, h3, h4, -⟩ := h
  have e16 := h1.2.2.2.2.2.1
  have e19 : cI σ 19 = nI n := (hq.I 19 16 (by decide)).trans e16
  have hn := h1.2.1
  rcases trailer_cases σ τ a e19 e16 (by omega) with ⟨j, h5, h6, h7, h8⟩ | h9
  · exact Or.inl ⟨n, j, hn, e16, h5, h6, h7, h8, h4.1 j h5⟩
  · exact Or.inr h9
theorem s_told (h : R σ τ) (a b : Int32) : Sim (c_told σ a b) (m_told τ a b) Rq := by
  unfold c_told m_told
  rcases h.tcase a with ⟨n, t, hn, -, ht, rfl, e1, e2, hT⟩ | ⟨e1, e2⟩
  · rw [e1, e2, B1_some, B1_some, if_neg k10, if_neg k10, m_in_c]
    rcases in_cases b 0 7 with ⟨-, -, e3⟩ | ⟨-, e3⟩
    · obtain ⟨v, e4, e5⟩ := tells_is hT (by omega) b
      obtain ⟨kd, hkd, hL, -⟩ := hT
      rw [e3, B1_some, B1_some, if_neg k10, if_neg k10, ixD_is (by omega) (by decide) hL, B1_some, e4, e5, B1_some, B1_some]
      exact ⟨_, _, rfl, rfl, rfl, h.say rfl⟩
    · rw [e3, B1_some, B1_some, if_pos k00, if_pos k00]
      exact h.same _
  · rw [e1, e2, B1_some, B1_some, if_pos k00, if_pos k00]
    exact h.same _
end Ops2
