/-! plain law: what is in force -/
section Force
variable {σ τ : St}
/-- what is asked about -/
def abq (wh yd : Nat) : Nat := if wh = 0 then yd else if wh = 1 then 8 + yd else 14 + wh
theorem abt_iff {w y wh yd : Nat} (hw : w < 4) (hy : y < 8) (hwh : wh < 4) (hyd : wh ≤ 1 → yd < 8) : abt (nI w) (nI y) = abq wh yd ↔ (w = wh ∧ (1 < wh ∨ y = yd)) := by
  have e0 : (nI w = 0) ↔ w = 0 := nI_eq (b := 0) (by omega) (by decide)
  have e1 : (nI w = 1) ↔ w = 1 := nI_eq (b := 1) (by omega) (by decide)
  unfold abt abq
  rw [nN_nI (by omega), nN_nI (by omega)]
  by_cases h0 : w = 0
  · rw [if_pos (e0.mpr h0)]
    by_cases k0 : wh = 0
    · rw [if_pos k0]; omega
    · rw [if_neg k0]
      by_cases k1 : wh = 1
      · rw [if_pos k1]; omega
      · rw [if_neg k1]; omega
  · rw [if_neg (fun g => h0 (e0.mp g))]
    by_cases h1 : w = 1
    · rw [if_pos (e1.mpr h1)]
      by_cases k0 : wh = 0
      · rw [if_pos k0]; have := hyd (by omega); omega
      · rw [if_neg k0]
        by_cases k1 : wh = 1
        · rw [if_pos k1]; omega
        · rw [if_neg k1]; omega
    · rw [if_neg (fun g => h1 (e1.mp g))]
      by_cases k0 : wh = 0
      · rw [if_pos k0]; have := hyd (by omega); omega
      · rw [if_neg k0]
        by_cases k1 : wh = 1
        · rw [if_pos k1]; have := hyd (by omega); omega
        · rw [if_neg k1]; omega
theorem sys_cs {W Y V : Nat → Int32} {base : Nat} : ∀ (m b : Nat), (∀ k, k < m → itOk W Y V (base + k)) → sys W Y V base m b = -9 ∨ ∃ v, v < 10000 ∧ sys W Y V base m b = nI v
  | 0, _, _ => Or.inl rfl
  | m + 1, b, h => by
    rw [sys]
    by_cases q : abt (W (base + m)) (Y (base + m)) = b
    · rw [if_pos q]
      obtain ⟨w, y, v, -, -, hv, -, -, e⟩ := h m (by omega)
      exact Or.inr ⟨v, hv, e⟩
    · rw [if_neg q]
      exact sys_cs m b (fun k hk => h k (by omega))
/-- the items of one term -/
theorem force_items {wh t m : Nat} {a2 a3 a4 x9 x10 : Int32} {yd : Nat} (hwh : wh < 4) (hyd : wh ≤ 1 → yd < 8 ∧ a2 = nI yd) (ht : t < 20) (hm : m ≤ 20) (e36 : cA σ 36 t = nI m) (hit : ∀ k, k < m → itOk (cA σ 37) (cA σ 38) (cA σ 39) (20 * t + k)) :
    lq3 (c_forceOf_L8 σ (nI wh) a2 a3 a4 (nI t)) x9 x10 (20 * nI t) = some (if (¬ a4 < cA σ 34 t ∧ ¬ a3 < cA σ 35 t ∧ ¬ cA σ 35 t < x10) ∧ sys (cA σ 37) (cA σ 38) (cA σ 39) (20 * t) m (abq wh yd) ≠ -9 then (sys (cA σ 37) (cA σ 38) (cA σ 39) (20 * t) m (abq wh yd), cA σ 35 t) else (x9, x10)) := by
  have key : ∃ e, lq3 (c_forceOf_L8 σ (nI wh) a2 a3 a4 (nI t)) x9 x10 (20 * nI t) = some e ∧ e = (if (¬ a4 < cA σ 34 t ∧ ¬ a3 < cA σ 35 t ∧ ¬ cA σ 35 t < x10) ∧ sys (cA σ 37) (cA σ 38) (cA σ 39) (20 * t) m (abq wh yd) ≠ -9 then (sys (cA σ 37) (cA σ 38) (cA σ 39) (20 * t) m (abq wh yd), cA σ 35 t) else (x9, x10)) := by
    have i20 : 20 * nI t = nI (20 * t) := pk_mul 20 t
    unfold lq3
    refine lp_forI m (fun j (q : Int32 × Int32 × Int32) => j ≤ m ∧ q.2.2 = nI (20 * t + j) ∧ (q.1, q.2.1) = (if (¬ a4 < cA σ 34 t ∧ ¬ a3 < cA σ 35 t ∧ ¬ cA σ 35 t < x10) ∧ sys (cA σ 37) (cA σ 38) (cA σ 39) (20 * t) j (abq wh yd) ≠ -9 then (sys (cA σ 37) (cA σ 38) (cA σ 39) (20 * t) j (abq wh yd), cA σ 35 t) else (x9, x10))) _ ?_ (i := 0) ⟨by omega, i20, ?_⟩
    · rintro j ⟨x, y, z⟩ ⟨hj, hz, hxy⟩
      dsimp only at hz hxy
      subst hz
      have hend : 20 * nI t + nI m = nI (20 * t + m) := by rw [i20, nI_add]
      by_cases hjm : j = m
      · subst hjm
        refine Or.inr ⟨(x, y), ?_, hxy⟩
        show c_forceOf_L8 σ (nI wh) a2 a3 a4 (nI t) x y (nI (20 * t + j)) = _
        unfold c_forceOf_L8
        rw [rdA_nI ht (by decide), B1_some, e36, hend, if_pos (Int32.le_refl _)]
      · have hj2 : j < m := by omega
        have hk : 20 * t + j < 400 := by omega
        obtain ⟨w, yy, v, hw, hy, hv, w1, w2, w3⟩ := hit j hj2
        have hab : abt (cA σ 37 (20 * t + j)) (cA σ 38 (20 * t + j)) = abq wh yd ↔ (w = wh ∧ (1 < wh ∨ yy = yd)) := by
          rw [w1, w2]
          exact abt_iff hw hy hwh (fun g => (hyd g).1)
        have hv9 : nI v ≠ -9 := nI_n9 (by omega)
        -- is it about this?
        have habout : ((if nI w = nI wh then (if 1 < nI wh then some 1 else (B1 (some (nI yy)) fun v20 => if v20 = a2 then some 1 else some 0)) else some 0) : Option Int32) = some (b01 (decide (w = wh ∧ (1 < wh ∨ yy = yd)))) := by
          by_cases q1 : w = wh
          · subst q1
            rw [if_pos rfl]
            by_cases q2 : 1 < w
            · rw [if_pos (show (1 : Int32) < nI w from nI_lt (a := 1) q2 (by omega)), decide_eq_true ⟨rfl, Or.inl q2⟩]
              rfl
            · rw [if_neg (show ¬ (1 : Int32) < nI w from nI_nlt (b := w) (a := 1) (by omega) (by decide)), B1_some]
              obtain ⟨g1, g2⟩ := hyd (by omega)
              by_cases q3 : yy = yd
              · rw [g2, if_pos (by rw [q3]), decide_eq_true ⟨rfl, Or.inr q3⟩]
                rfl
              · rw [g2, if_neg (fun g => q3 ((nI_eq (by omega) (by omega)).mp g)), decide_eq_false (by omega)]
                rfl
          · rw [if_neg (fun g => q1 ((nI_eq (by omega) (by omega)).mp g)), decide_eq_false (by omega)]
            rfl
        have hstep : c_forceOf_L8 σ (nI wh) a2 a3 a4 (nI t) x y (nI (20 * t + j)) = (B2 ((if b01 (decide (w = wh ∧ (1 < wh ∨ yy = yd))) = 0 then some (x, y) else if a4 < cA σ 34 t then some (x, y) else if a3 < cA σ 35 t then some (x, y) else if cA σ 35 t < y then some (x, y) else some (nI v, cA σ 35 t)) : Option (Int32 × Int32)) fun x23 x24 => some (Sum.inl (x23, x24, nI (20 * t + j + 1)))) := by
          unfold c_forceOf_L8
          simp only [rdA_nI ht (show 20 < 2 ^ 31 by decide), rdA_nI hk (show 400 < 2 ^ 31 by decide), B1_some, e36, hend, if_neg (nI_ge (show 20 * t + j < 20 * t + m by omega) (show 20 * t + m < 2 ^ 31 by omega)), w1, w2, w3, nI_1]
          rw [B1_some] at habout
          rw [habout, B1_some]
        refine Or.inl ⟨hj2, ?_⟩
        by_cases q : w = wh ∧ (1 < wh ∨ yy = yd)
        · have hs : sys (cA σ 37) (cA σ 38) (cA σ 39) (20 * t) (j + 1) (abq wh yd) = nI v := by rw [sys, if_pos (hab.mpr q), w3]
          by_cases hc : ¬ a4 < cA σ 34 t ∧ ¬ a3 < cA σ 35 t ∧ ¬ cA σ 35 t < x10
          · have hy2 : ¬ cA σ 35 t < y := by
              by_cases q5 : sys (cA σ 37) (cA σ 38) (cA σ 39) (20 * t) j (abq wh yd) ≠ -9
              · rw [if_pos ⟨hc, q5⟩] at hxy
                have := (Prod.mk.inj hxy).2
                rw [this]
                exact fun g => Int32.lt_irrefl g
              · rw [if_neg (fun g => q5 g.2)] at hxy
                rw [(Prod.mk.inj hxy).2]
                exact hc.2.2
            refine ⟨(nI v, cA σ 35 t, nI (20 * t + j + 1)), ?_, by omega, rfl, ?_⟩
            · show c_forceOf_L8 σ (nI wh) a2 a3 a4 (nI t) x y (nI (20 * t + j)) = _
              rw [hstep, decide_eq_true q, b01_t, if_neg k10, if_neg hc.1, if_neg hc.2.1, if_neg hy2, B2_some]
            · rw [hs, if_pos ⟨hc, hv9⟩]
          · refine ⟨(x, y, nI (20 * t + j + 1)), ?_, by omega, rfl, ?_⟩
            · show c_forceOf_L8 σ (nI wh) a2 a3 a4 (nI t) x y (nI (20 * t + j)) = _
              rw [if_neg (fun g => hc g.1)] at hxy
              obtain ⟨hx', hy'⟩ := Prod.mk.inj hxy
              rw [hstep, decide_eq_true q, b01_t, if_neg k10]
              by_cases c1 : a4 < cA σ 34 t
              · rw [if_pos c1, B2_some]
              · rw [if_neg c1]
                by_cases c2 : a3 < cA σ 35 t
                · rw [if_pos c2, B2_some]
                · rw [if_neg c2]
                  have c3 : cA σ 35 t < y := by
                    rw [hy']
                    exact Classical.byContradiction fun c3 => hc ⟨c1, c2, c3⟩
                  rw [if_pos c3, B2_some]
            · rw [if_neg (fun g => hc g.1)] at hxy ⊢
              exact hxy
        · have hs : sys (cA σ 37) (cA σ 38) (cA σ 39) (20 * t) (j + 1) (abq wh yd) = sys (cA σ 37) (cA σ 38) (cA σ 39) (20 * t) j (abq wh yd) := by rw [sys, if_neg (fun g => q (hab.mp g))]
          refine ⟨(x, y, nI (20 * t + j + 1)), ?_, by omega, rfl, ?_⟩
          · show c_forceOf_L8 σ (nI wh) a2 a3 a4 (nI t) x y (nI (20 * t + j)) = _
            rw [hstep, decide_eq_false q, b01_f, if_pos k00, B2_some]
          · rw [hs]
            exact hxy
    · rw [if_neg (fun g => g.2 rfl)]
  obtain ⟨e, k1, rfl⟩ := key
  exact k1
theorem force_is (h : R σ τ) {wh : Nat} (hwh : wh < 4) {a2 : Int32} {yd : Nat} (hyd : wh ≤ 1 → yd < 8 ∧ a2 = nI yd) (a3 a4 : Int32) : ∃ v, c_forceOf σ (nI wh) a2 a3 a4 = some v ∧ m_inForce τ (nI wh) a2 a3 a4 = some v := by
  obtain ⟨w, n, N, q, hw⟩ := h.rw
  have hq := hw.1.2.2.2.1
  have m40 : cI τ 40 = nI q := hw.1.2.2.2.2.2.2.2
  have c33 : cI σ 33 = nI q := (h.eq.I 33 40 (by decide)).trans m40
  have hTm := hw.2.2.2.2.1
  have e34 := h.eq.A 34 41 (by decide)
  have e35 := h.eq.A 35 42 (by decide)
  have hb : abq wh yd < 18 := by
    unfold abq
    by_cases k0 : wh = 0
    · rw [if_pos k0]; have := hyd (by omega); omega
    · rw [if_neg k0]
      by_cases k1 : wh = 1
      · rw [if_pos k1]; have := hyd (by omega); omega
      · rw [if_neg k1]; omega
  -- the default
  obtain ⟨df, hdf1, hdf2⟩ : ∃ df, ((if nI wh = 0 then some 120 else if nI wh = 1 then some 0 else if nI wh = 2 then some 600 else some 480) : Option Int32) = some df ∧ True := by
    have : wh = 0 ∨ wh = 1 ∨ wh = 2 ∨ wh = 3 := by omega
    rcases this with rfl | rfl | rfl | rfl
    · exact ⟨120, by decide, trivial⟩
    · exact ⟨0, by decide, trivial⟩
    · exact ⟨600, by decide, trivial⟩
    · exact ⟨480, by decide, trivial⟩
  have hab : ((if nI wh = 0 then some a2 else if nI wh = 1 then some (8 + a2) else some (14 + nI wh)) : Option Int32) = some (nI (abq wh yd)) := by
    have : wh = 0 ∨ wh = 1 ∨ wh = 2 ∨ wh = 3 := by omega
    rcases this with rfl | rfl | rfl | rfl
    · rw [if_pos (by decide), (hyd (by decide)).2]; rfl
    · rw [if_neg (by decide), if_pos (by decide), (hyd (by decide)).2, show (8 : Int32) + nI yd = nI (8 + yd) from nI_add 8 yd]; rfl
    · rw [if_neg (by decide), if_neg (by decide)]; rfl
    · rw [if_neg (by decide), if_neg (by decide)]; rfl
  have key : Sim (lq3 (c_forceOf_L3 σ (nI wh) a2 a3 a4) df (-9) 0) (lq2 (m_inForce_L3 τ a3 a4 (nI (abq wh yd))) (-9) 0) (fun x y => (y = -9 ∧ x = df) ∨ ∃ b, b < q ∧ y = nI b ∧ x = cA τ 43 (18 * b + abq wh yd)) := by
    unfold lq3 lq2
    refine lp_sim q (fun t (p : Int32 × Int32 × Int32) (r : Int32 × Int32) => t ≤ q ∧ p.2.2 = nI t ∧ r.2 = nI t ∧ ((r.1 = -9 ∧ p.1 = df ∧ p.2.1 = -9) ∨ ∃ b, b < t ∧ r.1 = nI b ∧ p.1 = cA τ 43 (18 * b + abq wh yd) ∧ p.2.1 = cA τ 42 b)) _ ?_ (i := 0) ⟨by omega, nI_0.symm, nI_0.symm, Or.inl ⟨rfl, rfl, rfl⟩⟩
    rintro t ⟨x, y, z⟩ ⟨bst, z'⟩ ⟨ht, hz, hz', hI⟩
    dsimp only at hz hz' hI
    subst hz hz'
    by_cases htq : t = q
    · subst htq
      refine Or.inr ⟨x, bst, ?_, ?_, ?_⟩
      · show c_forceOf_L3 σ (nI wh) a2 a3 a4 x y (nI t) = _
        unfold c_forceOf_L3
        rw [c33, if_pos (Int32.le_refl _)]
      · show m_inForce_L3 τ a3 a4 _ bst (nI t) = _
        unfold m_inForce_L3
        rw [m40, if_pos (Int32.le_refl _)]
      · rcases hI with ⟨g1, g2, -⟩ | ⟨b, g1, g2, g3, -⟩
        · exact Or.inl ⟨g1, g2⟩
        · exact Or.inr ⟨b, g1, g2, g3⟩
    · have ht2 : t < q := by omega
      have ht20 : t < 20 := by omega
      obtain ⟨m, hm, e36, hit, hsy, hto, hfr⟩ := hTm t ht2
      have hci := force_items (σ := σ) (wh := wh) (a2 := a2) (a3 := a3) (a4 := a4) (x9 := x) (x10 := y) hwh hyd ht20 hm e36 hit
      have hS := hsy (abq wh yd) hb
      have h43 : rdA 360 τ 43 (18 * nI t + nI (abq wh yd)) = some (cA τ 43 (18 * t + abq wh yd)) := by
        rw [show 18 * nI t = nI (18 * t) from pk_mul 18 t, nI_add, rdA_nI (by omega) (by decide)]
      have hcs := sys_cs (W := cA σ 37) (Y := cA σ 38) (V := cA σ 39) (base := 20 * t) m (abq wh yd) hit
      rw [← hS] at hcs hci
      rw [e34, e35] at hci
      have hcl : c_forceOf_L3 σ (nI wh) a2 a3 a4 x y (nI t) = (B2 (lq3 (c_forceOf_L8 σ (nI wh) a2 a3 a4 (nI t)) x y (20 * nI t)) fun x12 x13 => some (Sum.inl (x12, x13, nI (t + 1)))) := by
        unfold c_forceOf_L3
        rw [c33, if_neg (nI_ge ht2 (by omega)), nI_1]
      -- whether this term is in force
      have hml : m_inForce_L3 τ a3 a4 (nI (abq wh yd)) bst (nI t) = (if (¬ a4 < cA τ 41 t ∧ ¬ a3 < cA τ 42 t ∧ cA τ 43 (18 * t + abq wh yd) ≠ -9) ∧ (bst < 0 ∨ ∃ b, b < t ∧ bst = nI b ∧ ¬ cA τ 42 t < cA τ 42 b) then some (Sum.inl (nI t, nI (t + 1))) else some (Sum.inl (bst, nI (t + 1)))) := by
        unfold m_inForce_L3
        simp only [m40, if_neg (nI_ge ht2 (show q < 2 ^ 31 by omega)), rdA_nI ht20 (show 20 < 2 ^ 31 by decide), B1_some, h43, nI_1]
        by_cases c1 : a4 < cA τ 41 t
        · rw [if_pos c1, B1_some, if_pos k00, B1_some, if_neg (fun g => g.1.1 c1)]
        · rw [if_neg c1]
          by_cases c2 : a3 < cA τ 42 t
          · rw [if_pos c2, B1_some, if_pos k00, B1_some, if_neg (fun g => g.1.2.1 c2)]
          · rw [if_neg c2]
            by_cases c3 : cA τ 43 (18 * t + abq wh yd) = -9
            · rw [if_pos (by rw [c3]; exact k9l), B1_some, if_pos k00, B1_some, if_neg (fun g => g.1.2.2 c3)]
            · have c4 : ¬ cA τ 43 (18 * t + abq wh yd) < 0 := by
                rcases hcs with g | ⟨v, hv, g⟩
                · exact absurd g c3
                · rw [g]; exact nI_pos (by omega)
              rw [if_neg c4, B1_some, if_neg k10]
              rcases hI with ⟨g1, g2, g3⟩ | ⟨b, g1, g2, g3, g4⟩
              · rw [if_pos (by rw [g1]; exact k9l), B1_some, if_pos ⟨⟨c1, c2, c3⟩, Or.inl (by rw [g1]; exact k9l)⟩]
              · have n0 : ¬ bst < 0 := by rw [g2]; exact nI_pos (by omega)
                have h42 : rdA 20 τ 42 bst = some (cA τ 42 b) := by rw [g2, rdA_nI (by omega) (by decide)]
                rw [if_neg n0, h42, B1_some]
                by_cases c5 : cA τ 42 t < cA τ 42 b
                · rw [if_pos c5, B1_some, if_neg (fun g => by
                    rcases g.2 with g6 | ⟨b', g6, g7, g8⟩
                    · exact n0 g6
                    · have : b' = b := (nI_eq (by omega) (by omega)).mp (g7.symm.trans g2)
                      subst this
                      exact g8 c5)]
                · rw [if_neg c5, B1_some, if_pos ⟨⟨c1, c2, c3⟩, Or.inr ⟨b, g1, g2, c5⟩⟩]
      refine Or.inl ⟨ht2, ?_⟩
      by_cases hc : (¬ a4 < cA τ 41 t ∧ ¬ a3 < cA τ 42 t ∧ cA τ 43 (18 * t + abq wh yd) ≠ -9) ∧ (bst < 0 ∨ ∃ b, b < t ∧ bst = nI b ∧ ¬ cA τ 42 t < cA τ 42 b)
      · have hcc : (¬ a4 < cA τ 41 t ∧ ¬ a3 < cA τ 42 t ∧ ¬ cA τ 42 t < y) ∧ cA τ 43 (18 * t + abq wh yd) ≠ -9 := by
          refine ⟨⟨hc.1.1, hc.1.2.1, ?_⟩, hc.1.2.2⟩
          rcases hI with ⟨g1, g2, g3⟩ | ⟨b, g1, g2, g3, g4⟩
          · obtain ⟨j, hj, ej⟩ := hfr
            rw [g3, ej]
            intro g
            rw [i32_lt, nI_toInt (by omega)] at g
            have : (-9 : Int32).toInt = -9 := by decide
            omega
          · rcases hc.2 with g6 | ⟨b', g6, g7, g8⟩
            · rw [g2] at g6
              exact absurd g6 (nI_pos (by omega))
            · have : b' = b := (nI_eq (by omega) (by omega)).mp (g7.symm.trans g2)
              subst this
              rw [g4]
              exact g8
        rw [if_pos hcc] at hci
        refine ⟨(cA τ 43 (18 * t + abq wh yd), cA τ 42 t, nI (t + 1)), (nI t, nI (t + 1)), ?_, ?_, by omega, rfl, rfl, Or.inr ⟨t, by omega, rfl, rfl, rfl⟩⟩
        · show c_forceOf_L3 σ (nI wh) a2 a3 a4 x y (nI t) = _
          rw [hcl, hci, B2_some]
        · show m_inForce_L3 τ a3 a4 _ bst (nI t) = _
          rw [hml, if_pos hc]
      · have hcc : ¬ ((¬ a4 < cA τ 41 t ∧ ¬ a3 < cA τ 42 t ∧ ¬ cA τ 42 t < y) ∧ cA τ 43 (18 * t + abq wh yd) ≠ -9) := fun g => hc ⟨⟨g.1.1, g.1.2.1, g.2⟩, by
          rcases hI with ⟨g1, g2, g3⟩ | ⟨b, g1, g2, g3, g4⟩
          · exact Or.inl (by rw [g1]; exact k9l)
          · refine Or.inr ⟨b, g1, g2, ?_⟩
            rw [← g4]
            exact g.1.2.2⟩
        rw [if_neg hcc] at hci
        refine ⟨(x, y, nI (t + 1)), (bst, nI (t + 1)), ?_, ?_, by omega, rfl, rfl, ?_⟩
        · show c_forceOf_L3 σ (nI wh) a2 a3 a4 x y (nI t) = _
          rw [hcl, hci, B2_some]
        · show m_inForce_L3 τ a3 a4 _ bst (nI t) = _
          rw [hml, if_neg hc]
        · rcases hI with g | ⟨b, g1, g2⟩
          · exact Or.inl g
          · exact Or.inr ⟨b, by omega, g2⟩
  obtain ⟨x, y, k1, k2, k3⟩ := key
  unfold c_forceOf m_inForce
  rw [hdf1, B1_some, k1, B1_some, hab, B1_some, k2, B1_some]
  rcases k3 with ⟨g1, g2⟩ | ⟨b, g1, g2, g3⟩
  · rw [g1, if_pos k9l, B1_some, g2]
    exact ⟨df, rfl, rfl⟩
  · rw [g2, if_neg (nI_pos (by omega)), show 18 * nI b = nI (18 * b) from pk_mul 18 b, nI_add, rdA_nI (by omega) (by decide), B1_some, B1_some, g3]
    exact ⟨_, rfl, rfl⟩
theorem s_force (h : R σ τ) (a b c d : Int32) : Sim (c_force σ a b c d) (m_force τ a b c d) Eq := by
  unfold c_force m_force
  rw [m_in_c]
  rcases rng_cases a 3 (N := 3) (by decide) with ⟨wh, hwh, rfl, e1⟩ | ⟨-, e1⟩
  · rw [e1, B1_some, B1_some, if_neg k10, if_neg k10]
    by_cases h1 : 1 < wh
    · obtain ⟨v, f1, f2⟩ := force_is h (wh := wh) (by omega) (a2 := b) (yd := 0) (fun g => by omega) c d
      have t1 : (1 : Int32) < nI wh := nI_lt (a := 1) h1 (by omega)
      have t2 : (2 : Int32) ≤ nI wh := nI_le (a := 2) (by omega) (by omega)
      rw [if_pos t1, if_pos t2]
      rcases day_cases c with ⟨x, hx, rfl, e3, e4⟩ | ⟨e3, e4⟩
      · rw [e3, e4, B1_some, B1_some, if_neg k10, if_neg k10]
        rcases day_cases d with ⟨y, hy, rfl, e5, e6⟩ | ⟨e5, e6⟩
        · rw [e5, e6, B1_some, B1_some, if_neg k10, if_neg k10, f1, f2, B1_some, B1_some]
          exact ⟨_, _, rfl, rfl, rfl⟩
        · rw [e5, e6, B1_some, B1_some, if_pos k00, if_pos k00, B1_some]
          exact ⟨_, _, rfl, rfl, rfl⟩
      · rw [e3, e4, B1_some, B1_some, if_pos k00, if_pos k00, B1_some]
        exact ⟨_, _, rfl, rfl, rfl⟩
    · have t1 : ¬ (1 : Int32) < nI wh := nI_nlt (a := 1) (by omega) (by decide)
      have t2 : ¬ (2 : Int32) ≤ nI wh := nI_ge (b := 2) (by omega) (by decide)
      rw [if_neg t1, if_neg t2]
      rcases yard_cases b with ⟨yd, hyd, rfl, e7, e8⟩ | ⟨-, e7, e8⟩
      · obtain ⟨v, f1, f2⟩ := force_is h (wh := wh) (by omega) (a2 := nI yd) (yd := yd) (fun g => ⟨hyd, rfl⟩) c d
        rw [e7, e8, B1_some, B1_some, if_neg k10, if_neg k10]
        rcases day_cases c with ⟨x, hx, rfl, e3, e4⟩ | ⟨e3, e4⟩
        · rw [e3, e4, B1_some, B1_some, if_neg k10, if_neg k10]
          rcases day_cases d with ⟨y, hy, rfl, e5, e6⟩ | ⟨e5, e6⟩
          · rw [e5, e6, B1_some, B1_some, if_neg k10, if_neg k10, f1, f2, B1_some, B1_some]
            exact ⟨_, _, rfl, rfl, rfl⟩
          · rw [e5, e6, B1_some, B1_some, if_pos k00, if_pos k00, B1_some]
            exact ⟨_, _, rfl, rfl, rfl⟩
        · rw [e3, e4, B1_some, B1_some, if_pos k00, if_pos k00, B1_some]
          exact ⟨_, _, rfl, rfl, rfl⟩
      · rw [e7, e8, B1_some, B1_some, if_pos k00, if_pos k00, B1_some]
        exact ⟨_, _, rfl, rfl, rfl⟩
  · rw [e1, B1_some, B1_some, if_pos k00, if_pos k00, B1_some]
    exact ⟨_, _, rfl, rfl, rfl⟩
end Force
