/-! plain law: pairs, the class' search -/
section Pairs2
variable {σ σ' σ0 τ τ' τ0 : St} {rr : Nat}
noncomputable def pe (τ0 : St) (rr k l : Nat) : Option Nat :=
  match m_bestSwap τ0 (nI k) (nI l) (cA τ0 7 (40 * rr + k)) (cA τ0 7 (40 * rr + l)) with
  | none => none
  | some p => if 0 ≤ p.1 then some (nN (cI p.2 54)) else none
def rwY (τ0 : St) (rr : Nat) : Prop := ∀ j, j < 6 → ∃ z, z < 8 ∧ cA τ0 7 (40 * rr + j) = nI z
theorem FrC.sc (h : FrC σ σ') : ScC σ σ' := ⟨fun k hk => h.1 k (fun g => hk (by rw [g]; decide)) (fun g => hk (by rw [g]; decide)), fun k _ => h.2.1 k, fun k hk => h.2.2.1 k (fun g => hk (by rw [g]; decide)) (fun g => hk (by rw [g]; decide)), h.2.2.2⟩
theorem smI_50 : ∀ k, k ∉ smI → ¬ (50 ≤ k ∧ k ≤ 54) := fun k hk g => by
  have : k = 50 ∨ k = 51 ∨ k = 52 ∨ k = 53 ∨ k = 54 := by omega
  rcases this with rfl | rfl | rfl | rfl | rfl <;> exact hk (by decide)
theorem FrM.sc (h : FrM τ τ') : ScM τ τ' := ⟨fun k hk => h.1 k (by have := smI_50 k hk; omega), fun k _ => h.2.1 k, fun k hk => h.2.2 k (fun g => hk (by rw [g]; decide))⟩
theorem pe_is {b : Int32} {τ1 : St} {k l : Nat} (h : m_bestSwap τ0 (nI k) (nI l) (cA τ0 7 (40 * rr + k)) (cA τ0 7 (40 * rr + l)) = some (b, τ1)) : pe τ0 rr k l = if 0 ≤ b then some (nN (cI τ1 54)) else none := by
  unfold pe
  rw [h]
theorem pe_C (h : R σ0 τ0) (hY : rwY τ0 rr) (hC : ScC σ0 σ) {k l : Nat} (hk : k < 6) (hl : l < 6) : ∃ σ', c_laySwap σ (nI k) (nI l) (cA τ0 7 (40 * rr + k)) (cA τ0 7 (40 * rr + l)) = some (b01 (pe τ0 rr k l).isSome, σ') ∧ FrC σ σ' ∧ ∀ t, pe τ0 rr k l = some t → cI σ' 42 = nI t ∧ t ≤ 168000 := by
  obtain ⟨z1, h1, e1⟩ := hY k hk
  obtain ⟨z2, h2, e2⟩ := hY l hl
  obtain ⟨σ', τ', b, k1, k2, k3, k4, k5, k6, k7⟩ := lay_both (h.scr hC ScM.rfl) hk hl h1 h2
  have hp := pe_is (rr := rr) (k := k) (l := l) (by rw [e1, e2]; exact k2)
  rw [hp, e1, e2]
  refine ⟨σ', ?_, k6, ?_⟩
  · rw [k1]
    rcases k4 with rfl | ⟨y, hy, rfl, -⟩
    · rw [if_neg k90]; rfl
    · rw [if_pos (nI_pos' (by omega)), decide_eq_true (show nI y ≠ -9 from nI_n9 (by omega))]; rfl
  · intro t ht
    rcases k4 with rfl | ⟨y, hy, rfl, k8, j, hj, k9⟩
    · rw [if_neg k90] at ht; cases ht
    · rw [if_pos (nI_pos' (by omega)), k9, nN_nI (by omega)] at ht
      cases ht
      exact ⟨by rw [k8, k9], hj⟩
theorem pe_M (h : R σ0 τ0) (hY : rwY τ0 rr) (hM : ScM τ0 τ) {k l : Nat} (hk : k < 6) (hl : l < 6) : ∃ b τ', m_bestSwap τ (nI k) (nI l) (cA τ0 7 (40 * rr + k)) (cA τ0 7 (40 * rr + l)) = some (b, τ') ∧ FrM τ τ' ∧ ((pe τ0 rr k l = none ∧ b = -9) ∨ ∃ t, pe τ0 rr k l = some t ∧ 0 ≤ b ∧ cI τ' 54 = nI t ∧ t ≤ 168000) := by
  obtain ⟨z1, h1, e1⟩ := hY k hk
  obtain ⟨z2, h2, e2⟩ := hY l hl
  obtain ⟨σ1, τ1, b1, k1, k2, k3, k4, -, -, -⟩ := lay_both h hk hl h1 h2
  obtain ⟨σ2, τ2, b2, j1, j2, j3, j4, -, -, j7⟩ := lay_both (h.scr ScC.rfl hM) hk hl h1 h2
  have hp := pe_is (rr := rr) (k := k) (l := l) (by rw [e1, e2]; exact k2)
  rw [k1] at j1
  have js := (Prod.mk.inj (Option.some.inj j1)).2
  subst js
  rw [k3] at j3
  subst j3
  rw [e1, e2]
  refine ⟨_, τ2, j2, j7, ?_⟩
  rcases k4 with rfl | ⟨y, hy, rfl, k8, j, hj, k9⟩
  · exact Or.inl ⟨by rw [hp, if_neg k90], rfl⟩
  · refine Or.inr ⟨j, by rw [hp, if_pos (nI_pos' (by omega)), k9, nN_nI (by omega)], nI_pos' (by omega), ?_, hj⟩
    rcases j4 with g | ⟨y', -, -, g8, -⟩
    · exact absurd g (nI_n9 (by omega))
    · rw [← g8, k8, k9]
theorem pEnd_is (h : R σ0 τ0) (hY : rwY τ0 rr) (hrr : rr < 6) (hM : ScM τ0 τ) {k l : Nat} (hk : k < 6) (hl : l < 6) : ∃ τ', m_pairEnd τ (nI rr) (nI k) (nI l) = some (eM (pe τ0 rr k l), τ') ∧ FrM τ τ' ∧ ∀ t, pe τ0 rr k l = some t → t ≤ 168000 := by
  obtain ⟨b, τ', k1, k2, k3⟩ := pe_M h hY hM hk hl
  have e7 : cA τ 7 = cA τ0 7 := hM.2.2 7 (by decide)
  refine ⟨τ', ?_, k2, fun t ht => ?_⟩
  · unfold m_pairEnd
    rw [ix40, rdA_nI (by omega) (by decide), B1_some, ix40, rdA_nI (by omega) (by decide), B1_some, e7, k1, B2_some]
    rcases k3 with ⟨g1, rfl⟩ | ⟨t, g1, g2, g3, -⟩
    · rw [if_neg k90, B1_some, g1]; rfl
    · rw [if_pos g2, B1_some, g1, g3]; rfl
  · rcases k3 with ⟨g1, -⟩ | ⟨t', g1, -, -, g4⟩
    · rw [g1] at ht; cases ht
    · rw [g1] at ht; cases ht; exact g4
theorem bt_0 (j : Nat) : bt 0 j = 0 := by unfold bt; rw [Nat.zero_div]
theorem low_C {S : Nat} (hS : S < 64) (h0 : 0 < S) {step : Int32 → Option (Int32 ⊕ Int32)} (hst : ∀ x, step x = if ((nI S >>> (x &&& 31)) &&& 1) = 0 then some (Sum.inl (x + 1)) else some (Sum.inr x)) : lq1 step 0 = some (nI (lowb S)) := by
  obtain ⟨l1, l2, l3⟩ := lowb_all S hS h0
  have key : ∃ r, lq1 step 0 = some r ∧ r = nI (lowb S) := by
    unfold lq1
    refine lp_forI 6 (fun k (p : Int32) => k ≤ lowb S ∧ p = nI k) _ ?_ (i := 0) ⟨by omega, nI_0.symm⟩
    rintro k x ⟨hk, rfl⟩
    by_cases q : k = lowb S
    · refine Or.inr ⟨nI k, ?_, by rw [q]⟩
      rw [hst, btI hS (by omega), q, l2, if_neg (by decide)]
    · refine Or.inl ⟨by omega, nI k + 1, ?_, by omega, nI_1 k⟩
      rw [hst, btI hS (by omega), l3 k (by omega) (by omega), if_pos nI_0]
  obtain ⟨r, k1, rfl⟩ := key
  exact k1
def BsC (σ : St) (b : Bs) : Prop := (b = none ∧ cI σ 46 = -9) ∨ ∃ v r, b = some (v, r) ∧ v ≤ 168000 ∧ cI σ 46 = nI v ∧ ∀ j, j < 6 → cA σ 45 j = r j
theorem BsC.fr {b : Bs} (h : BsC σ b) (k : FrC σ σ') : BsC σ' b := by
  unfold BsC
  rw [k.1 46 (by decide) (by decide), k.2.2.1 45 (by decide) (by decide)]
  exact h
theorem try_is (h : R σ0 τ0) (hY : rwY τ0 rr) (hrr : rr < 6) (hL : cL σ0 (100 + rr) = some 6) (hrow : ∀ j, j < 6 → cA σ0 (100 + rr) j = cA τ0 7 (40 * rr + j)) : ∀ (m S a : Nat) (cur : Ar) (best : Bs) (σ : St), S < 64 → pop S 6 ≤ 2 * m → a ≤ 168000 → ScC σ0 σ → (∀ j, j < 6 → bt S j = 0 → cA σ 44 j = cur j) → BsC σ best →
    ∃ σ', c_tryPairs (m + 1) σ (nI S) (100 + rr) (nI a) = some σ' ∧ ScC σ0 σ' ∧ BsC σ' (fo (pe τ0 rr) m (S, a, cur) best) ∧ ∀ j, j < 6 → bt S j = 0 → cA σ' 44 j = cur j := by
  intro m
  induction m with
  | zero =>
    intro S a cur best σ hS hpop ha hC hcur hB
    have h0 : S = 0 := pop6_0 S hS (by omega)
    subst h0
    have leaf : (best = none ∨ ∃ v r, best = some (v, r) ∧ a < v) → ∃ σ', c_tryPairs_K1 (c_tryPairs 0) σ (nI 0) (100 + rr) (nI a) = some σ' ∧ ScC σ0 σ' ∧ BsC σ' (fo (pe τ0 rr) 0 (0, a, cur) best) ∧ ∀ j, j < 6 → bt 0 j = 0 → cA σ' 44 j = cur j := fun hb => by
      have hcp : cpA 6 6 (sI σ 46 (nI a)) 44 0 45 0 6 = some (sAr (sI σ 46 (nI a)) 45 (va_cpy (cA σ 44) (cA σ 45) 0 0 6)) := cpA_is (dp := 0) (n := 6) (by decide) (by decide) (by decide) (by decide)
      refine ⟨_, by unfold c_tryPairs_K1; rw [if_pos nI_0, hcp, B1_some], (hC.wI (by decide)).wAr (by decide), ?_, fun j hj hb => ?_⟩
      · have hf : fo (pe τ0 rr) 0 (0, a, cur) best = some (a, cur) := by
          rw [fo_0]
          rcases hb with rfl | ⟨v, r, rfl, hv⟩
          · rfl
          · show (if a < v then some (a, cur) else some (v, r)) = _
            rw [if_pos hv]
        rw [hf]
        refine Or.inr ⟨a, cur, rfl, ha, rfl, fun j hj => ?_⟩
        rw [cA_sAr_at]
        unfold va_cpy
        rw [if_pos ⟨by omega, by omega⟩, show 0 + (j - 0) = j by omega]
        exact hcur j hj (bt_0 j)
      · rw [cA_sAr_ne _ (by decide)]
        exact hcur j hj hb
    rw [c_tryPairs]
    rcases hB with ⟨rfl, e46⟩ | ⟨v, r, rfl, hv, e46, e45⟩
    · rw [if_pos e46]
      exact leaf (Or.inl rfl)
    · rw [if_neg (by rw [e46]; exact nI_n9 (by omega)), e46]
      by_cases q : a < v
      · rw [if_pos (nI_lt q (by omega))]
        exact leaf (Or.inr ⟨v, r, rfl, q⟩)
      · rw [if_neg (Int32.not_lt.mpr (nI_le (by omega) (by omega))), fo_cut 0 _ (show v ≤ a by omega)]
        exact ⟨σ, rfl, hC, Or.inr ⟨v, r, rfl, hv, e46, e45⟩, hcur⟩
  | succ m ih =>
    intro S a cur best σ hS hpop ha hC hcur hB
    have work : (best = none ∨ ∃ v r, best = some (v, r) ∧ a < v) → ∃ σ', c_tryPairs_K1 (c_tryPairs (m + 1)) σ (nI S) (100 + rr) (nI a) = some σ' ∧ ScC σ0 σ' ∧ BsC σ' (fo (pe τ0 rr) (m + 1) (S, a, cur) best) ∧ ∀ j, j < 6 → bt S j = 0 → cA σ' 44 j = cur j := fun hb => by
      by_cases h0 : S = 0
      · subst h0
        have hcp : cpA 6 6 (sI σ 46 (nI a)) 44 0 45 0 6 = some (sAr (sI σ 46 (nI a)) 45 (va_cpy (cA σ 44) (cA σ 45) 0 0 6)) := cpA_is (dp := 0) (n := 6) (by decide) (by decide) (by decide) (by decide)
        refine ⟨_, by unfold c_tryPairs_K1; rw [if_pos nI_0, hcp, B1_some], (hC.wI (by decide)).wAr (by decide), ?_, fun j hj hb => ?_⟩
        · have hf : fo (pe τ0 rr) (m + 1) (0, a, cur) best = some (a, cur) := by
            rw [fo_0]
            rcases hb with rfl | ⟨v, r, rfl, hv⟩
            · rfl
            · show (if a < v then some (a, cur) else some (v, r)) = _
              rw [if_pos hv]
          rw [hf]
          refine Or.inr ⟨a, cur, rfl, ha, rfl, fun j hj => ?_⟩
          rw [cA_sAr_at]
          unfold va_cpy
          rw [if_pos ⟨by omega, by omega⟩, show 0 + (j - 0) = j by omega]
          exact hcur j hj (bt_0 j)
        · rw [cA_sAr_ne _ (by decide)]
          exact hcur j hj hb
      · have hS0 : 0 < S := by omega
        obtain ⟨l1, l2, l3⟩ := lowb_all S hS hS0
        have key : ∃ e, lq2 (c_tryPairs_L5 (c_tryPairs (m + 1)) (nI S) (100 + rr) (nI a) (nI (lowb S))) σ (nI (lowb S + 1)) = some e ∧ ScC σ0 e ∧ BsC e (fo (pe τ0 rr) (m + 1) (S, a, cur) best) ∧ ∀ j, j < 6 → bt S j = 0 → cA e 44 j = cur j := by
          unfold lq2
          refine lp_forI 6 (fun y (p : St × Int32) => lowb S < y ∧ y ≤ 6 ∧ p.2 = nI y ∧ ScC σ0 p.1 ∧ BsC p.1 (itr (fun d b => oB (fo (pe τ0 rr) m) (stp (pe τ0 rr) (S, a, cur) d) b) y best) ∧ ∀ j, j < 6 → bt S j = 0 → cA p.1 44 j = cur j) _ ?_ (i := lowb S + 1) ⟨by omega, by omega, rfl, hC, ?_, hcur⟩
          · rintro y ⟨σ6, z⟩ ⟨hxy, hy6, hz, hC6, hB6, hc6⟩
            dsimp only at hz hC6 hB6 hc6
            subst hz
            by_cases hy : y = 6
            · subst hy
              refine Or.inr ⟨σ6, ?_, hC6, hB6, hc6⟩
              show c_tryPairs_L5 _ _ _ _ _ σ6 (nI 6) = _
              unfold c_tryPairs_L5
              rw [if_pos (by decide)]
            · have hy2 : y < 6 := by omega
              have hge : ¬ (6 : Int32) ≤ nI y := nI_ge (b := 6) hy2 (by decide)
              have hL6 : cL σ6 (100 + rr) = some 6 := (hC6.2.2.2 _).trans hL
              have hr6 : ∀ j, j < 6 → cA σ6 (100 + rr) j = cA τ0 7 (40 * rr + j) := fun j hj => by
                rw [hC6.2.2.1 (100 + rr) (by
                  have : ∀ k ∈ scA, k < 100 := by decide
                  intro g; have := this _ g; omega)]
                exact hrow j hj
              by_cases hb1 : bt S y = 1
              · obtain ⟨σ17, p1, p2, p3⟩ := pe_C h hY hC6 (k := lowb S) (l := y) l1 hy2
                have e1 : c_tryPairs_L5 (c_tryPairs (m + 1)) (nI S) (100 + rr) (nI a) (nI (lowb S)) σ6 (nI y) = B1 (if b01 (pe τ0 rr (lowb S) y).isSome = 0 then some σ17 else B1 (wrA 6 σ17 44 (nI (lowb S)) (nI y)) fun σ18 => B1 (wrA 6 σ18 44 (nI y) (nI (lowb S))) fun σ20 => B1 (j_max (nI a) (cI σ17 42)) fun v23 => B1 (c_tryPairs (m + 1) σ20 (nI S &&& (((1 <<< (nI (lowb S) &&& 31)) ||| (1 <<< (nI y &&& 31))) ^^^ (-1))) (100 + rr) v23) fun σ24 => some σ24) fun σ10 => some (Sum.inl (σ10, nI y + 1)) := by
                  unfold c_tryPairs_L5
                  rw [if_neg hge, btI hS hy2, hb1, if_pos (show nI 1 = 1 from rfl), rdD_nI hL6 l1 (by decide), B1_some, rdD_nI hL6 hy2 (by decide), B1_some, hr6 _ l1, hr6 _ hy2, p1, B2_some]
                cases hp : pe τ0 rr (lowb S) y with
                | none =>
                  rw [hp] at e1
                  refine Or.inl ⟨hy2, (σ17, nI y + 1), ?_, by omega, by omega, nI_1 y, hC6.trans p2.sc, ?_, fun j hj hbj => ?_⟩
                  · show c_tryPairs_L5 _ _ _ _ _ σ6 (nI y) = _
                    rw [e1, show b01 (none : Option Nat).isSome = 0 from rfl, if_pos k00, B1_some]
                  · rw [itr, stp_n hS0 (Or.inr (Or.inr hp))]
                    exact hB6.fr p2
                  · show cA σ17 44 j = _
                    rw [p2.2.2.1 44 (by decide) (by decide)]
                    exact hc6 j hj hbj
                | some t =>
                  rw [hp] at e1
                  obtain ⟨q1, q2⟩ := p3 t hp
                  have hne : lowb S ≠ y := by omega
                  have hclr := clr_a1 S hS _ l1 y hy2 ⟨hne, l2, hb1⟩
                  have hpp := clr_a2 S hS _ l1 y hy2 ⟨hne, l2, hb1⟩
                  have e44 : cA (sA (sA σ17 44 (lowb S) (nI y)) 44 y (nI (lowb S))) 44 = upd (upd (cA σ6 44) (lowb S) (nI y)) y (nI (lowb S)) := by
                    rw [cA_sA, if_pos rfl, cA_sA, if_pos rfl, p2.2.2.1 44 (by decide) (by decide)]
                  obtain ⟨σ24, r1, r2, r3, r4⟩ := ih (S - 2 ^ lowb S - 2 ^ y) (max a t) (upd (upd cur (lowb S) (nI y)) y (nI (lowb S))) (itr (fun d b => oB (fo (pe τ0 rr) m) (stp (pe τ0 rr) (S, a, cur) d) b) y best) (sA (sA σ17 44 (lowb S) (nI y)) 44 y (nI (lowb S))) (Nat.lt_of_le_of_lt (Nat.le_trans (Nat.sub_le _ _) (Nat.sub_le _ _)) hS) (by omega) (by omega) (((hC6.trans p2.sc).wA (by decide)).wA (by decide)) (fun j hj hbj => by
                    rw [e44]
                    by_cases g1 : j = y
                    · rw [g1, upd_at, upd_at]
                    · rw [upd_ne _ g1, upd_ne _ g1]
                      by_cases g2 : j = lowb S
                      · rw [g2, upd_at, upd_at]
                      · rw [upd_ne _ g2, upd_ne _ g2]
                        rw [clr_bt hS l1 hy2 hj ⟨hne, l2, hb1, g2, g1⟩] at hbj
                        exact hc6 j hj hbj) (by
                    have := hB6.fr p2
                    exact this)
                  refine Or.inl ⟨hy2, (σ24, nI y + 1), ?_, by omega, by omega, nI_1 y, r2, ?_, fun j hj hbj => ?_⟩
                  · show c_tryPairs_L5 _ _ _ _ _ σ6 (nI y) = _
                    rw [e1, show b01 (some t).isSome = 1 from rfl, if_neg k10, wrA_nI l1 (by decide), B1_some, wrA_nI hy2 (by decide), B1_some, q1, jmax_nI (by omega) (by omega), B1_some, hclr, r1, B1_some, B1_some]
                  · rw [itr, stp_s hS0 (Ne.symm hne) hb1 hp]
                    exact r3
                  · have g1 : j ≠ y := fun g => by rw [g, hb1] at hbj; cases hbj
                    have g2 : j ≠ lowb S := fun g => by rw [g, l2] at hbj; cases hbj
                    have := r4 j hj (by rw [clr_bt hS l1 hy2 hj ⟨hne, l2, hb1, g2, g1⟩]; exact hbj)
                    rw [upd_ne _ g1, upd_ne _ g2] at this
                    exact this
              · have hb0 : bt S y = 0 := by have := bt_le S y; omega
                refine Or.inl ⟨hy2, (σ6, nI y + 1), ?_, by omega, by omega, nI_1 y, hC6, ?_, hc6⟩
                · show c_tryPairs_L5 _ _ _ _ _ σ6 (nI y) = _
                  unfold c_tryPairs_L5
                  rw [if_neg hge, btI hS hy2, hb0, if_neg (show ¬ nI 0 = 1 by decide), B1_some]
                · rw [itr, stp_n hS0 (Or.inr (Or.inl hb0))]
                  exact hB6
          · rw [itr_id (fun j hj => by
              rw [stp_n hS0 (by
                by_cases g : j = lowb S
                · exact Or.inl g
                · exact Or.inr (Or.inl (l3 j (by omega) (by omega))))]
              rfl)]
            exact hB
        obtain ⟨e, k1, k2, k3, k4⟩ := key
        refine ⟨e, ?_, k2, k3, k4⟩
        unfold c_tryPairs_K1
        rw [if_neg (nI_ne0 hS0 (by omega)), low_C (step := c_tryPairs_L2 (nI S)) hS hS0 (fun x => rfl), B1_some, nI_1, k1, B1_some]
    rw [c_tryPairs]
    rcases hB with ⟨rfl, e46⟩ | ⟨v, r, rfl, hv, e46, e45⟩
    · rw [if_pos e46]
      exact work (Or.inl rfl)
    · rw [if_neg (by rw [e46]; exact nI_n9 (by omega)), e46]
      by_cases q : a < v
      · rw [if_pos (nI_lt q (by omega))]
        exact work (Or.inr ⟨v, r, rfl, q⟩)
      · rw [if_neg (Int32.not_lt.mpr (nI_le (by omega) (by omega))), fo_cut (m + 1) _ (show v ≤ a by omega)]
        exact ⟨σ, rfl, hC, Or.inr ⟨v, r, rfl, hv, e46, e45⟩, hcur⟩
end Pairs2
