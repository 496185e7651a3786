/-! plain law: look, the first loops -/
section Look7
variable {σ σ' σ0 τ τ' τ0 : St} {rr : Nat}
def g100 (f : Nat → Int32) : Nat → Bool
  | 0 => true
  | k + 1 => g100 f k && decide (¬ f k < 0 ∧ ¬ 100 < f k)
theorem g100_all {f : Nat → Int32} : ∀ {k : Nat}, g100 f k = true → ∀ i, i < k → ¬ f i < 0 ∧ ¬ 100 < f i
  | 0, _, i, hi => absurd hi (Nat.not_lt_zero i)
  | k + 1, h, i, hi => by
    rw [g100, Bool.and_eq_true] at h
    by_cases q : i = k
    · subst q; exact of_decide_eq_true h.2
    · exact g100_all h.1 i (by omega)
theorem in100 (v : Int32) : c_in v 0 100 = some (b01 (decide (¬ v < 0 ∧ ¬ 100 < v))) := by
  by_cases g : ¬ v < 0 ∧ ¬ 100 < v
  · rw [c_in_t g.1 g.2, decide_eq_true g]; rfl
  · rw [c_in_f (Classical.byContradiction fun q => g ⟨fun q1 => q (Or.inl q1), fun q1 => q (Or.inr q1)⟩), decide_eq_false g]; rfl
theorem L18_C {f : Nat → Int32} (hrr : rr < 6) (hL : cL σ (100 + rr) = some 8) (hrow : ∀ y, y < 8 → cA σ (100 + rr) y = f y) : lq3 (c_look_L18 σ (nI rr)) 0 1 0 = some (nI (rwb f 8), b01 (g100 f 8)) := by
  have key : ∃ e, lq3 (c_look_L18 σ (nI rr)) 0 1 0 = some e ∧ e = (nI (rwb f 8), b01 (g100 f 8)) := by
    unfold lq3
    refine lp_forI 8 (fun k (p : Int32 × Int32 × Int32) => k ≤ 8 ∧ p = (nI (rwb f k), b01 (g100 f k), nI k)) _ ?_ (i := 0) ⟨by omega, rfl⟩
    rintro k p ⟨hk, rfl⟩
    by_cases h8 : k = 8
    · subst h8
      exact Or.inr ⟨_, by show c_look_L18 σ _ _ _ (nI 8) = _; unfold c_look_L18; rw [if_pos (by decide)], rfl⟩
    · have hk2 : k < 8 := by omega
      have e1 : ((if f k ≤ 0 then some 0 else some (1 <<< (nI k &&& 31))) : Option Int32) = some (nI (if f k ≤ 0 then 0 else 2 ^ k)) := by
        by_cases g : f k ≤ 0
        · rw [if_pos g, if_pos g]; rfl
        · rw [if_neg g, if_neg g, shl_all k (by omega)]
      refine Or.inl ⟨hk2, (nI (rwb f (k + 1)), b01 (g100 f (k + 1)), nI k + 1), ?_, by omega, by rw [nI_1]⟩
      show c_look_L18 σ _ _ _ (nI k) = _
      unfold c_look_L18
      rw [if_neg (ge8 hk2), ixD_is hrr (by decide) hL, B1_some, rdD_nI hL hk2 (by decide), B1_some, hrow k hk2, in100, B1_some, B1_some, rdD_nI hL hk2 (by decide), B1_some, hrow k hk2, e1, B1_some, or_nI, b01_and]
      rfl
  obtain ⟨e, k1, rfl⟩ := key
  exact k1
noncomputable def rch (τ0 : St) (z now A k : Nat) : Bool := (mem8 A k).all fun y => (co τ0 z now y).isSome
theorem L16_M (h : R σ0 τ0) {f : Nat → Int32} {V z now : Nat} (hrr : rr < 6) (hrow : ∀ y, y < 8 → cA τ0 7 (40 * rr + y) = f y) (hV : V < 256) (hz : z < 8) (hnow : now ≤ 99999) (m5 : cI τ0 5 = nI now) (hM : ScM τ0 τ) :
    ∃ τ', lq5 (m_look_L16 (nI z) (nI rr) (nI V)) τ 1 0 1 0 = some (τ', b01 (g100 f 8), nI (mem8 (rwb f 8 &&& V) 8).length, b01 (rch τ0 z now (rwb f 8 &&& V) 8)) ∧ ScM τ0 τ' ∧ ∀ i, i < (mem8 (rwb f 8 &&& V) 8).length → i < 6 → cA τ' 60 i = nI ((mem8 (rwb f 8 &&& V) 8).getD i 0) := by
  generalize hA : rwb f 8 &&& V = A
  have hbt : ∀ j, j < 8 → (bt A j = 1 ↔ (¬ f j ≤ 0 ∧ bt V j = 1)) := fun j hj => by rw [← hA]; exact and_bt hj
  have key : ∃ e, lq5 (m_look_L16 (nI z) (nI rr) (nI V)) τ 1 0 1 0 = some e ∧ ∃ τ', e = (τ', b01 (g100 f 8), nI (mem8 A 8).length, b01 (rch τ0 z now A 8)) ∧ ScM τ0 τ' ∧ ∀ i, i < (mem8 A 8).length → i < 6 → cA τ' 60 i = nI ((mem8 A 8).getD i 0) := by
    unfold lq5
    refine lp_forI 8 (fun k (p : St × Int32 × Int32 × Int32 × Int32) => k ≤ 8 ∧ ∃ τ', p = (τ', b01 (g100 f k), nI (mem8 A k).length, b01 (rch τ0 z now A k), nI k) ∧ ScM τ0 τ' ∧ ∀ i, i < (mem8 A k).length → i < 6 → cA τ' 60 i = nI ((mem8 A k).getD i 0)) _ ?_ (i := 0) ⟨by omega, τ, rfl, hM, fun i hi => absurd hi (Nat.not_lt_zero i)⟩
    rintro k p ⟨hk, τ1, rfl, hM1, h60⟩
    by_cases h8 : k = 8
    · subst h8
      exact Or.inr ⟨_, by show m_look_L16 _ _ _ _ _ _ _ (nI 8) = _; unfold m_look_L16; rw [if_pos (by decide)], τ1, rfl, hM1, h60⟩
    · have hk2 : k < 8 := by omega
      have hlen : (mem8 A k).length ≤ k := by
        unfold mem8
        exact Nat.le_trans (List.length_filter_le _ _) (by rw [List.length_range]; exact Nat.le_refl _)
      have e7 : rdA 240 τ1 7 (40 * nI rr + nI k) = some (f k) := by
        rw [ix40, rdA_nI (by omega) (by decide), hM1.2.2 7 (by decide), hrow k hk2]
      have s1 : ((if b01 (g100 f k) = 0 then some 0 else (B1 (m_in (f k) 0 100) fun v31 => if v31 = 0 then some 0 else some 1)) : Option Int32) = some (b01 (g100 f (k + 1))) := by
        rw [m_in_c, in100, B1_some, g100]
        cases g100 f k <;> cases decide (¬ f k < 0 ∧ ¬ 100 < f k) <;> rfl
      have skip : bt A k ≠ 1 → mem8 A (k + 1) = mem8 A k := fun g => by rw [mem8_s, if_neg g, List.append_nil]
      have e1 : m_look_L16 (nI z) (nI rr) (nI V) τ1 (b01 (g100 f k)) (nI (mem8 A k).length) (b01 (rch τ0 z now A k)) (nI k) = B3 ((if f k ≤ 0 then (some (τ1, nI (mem8 A k).length, b01 (rch τ0 z now A k))) else (if nI (bt V k) = 1 then (B1 ((if 6 ≤ nI (mem8 A k).length then (some τ1) else (B1 (wrA 6 τ1 60 (nI (mem8 A k).length) (nI k)) fun σ38 => some σ38)) : Option (St)) fun σ37 => B2 ((if b01 (rch τ0 z now A k) = 0 then (some (σ37, 0)) else (B2 (m_comesTo σ37 (nI z) (cI σ37 5) (nI k)) fun v44 σ45 => if 100000000 ≤ v44 then (some (σ45, 0)) else (some (σ45, 1)))) : Option (St × Int32)) fun σ41 x42 => some (σ41, nI (mem8 A k).length + 1, x42)) else (some (τ1, nI (mem8 A k).length, b01 (rch τ0 z now A k))))) : Option (St × Int32 × Int32)) fun σ33 x34 x35 => some (Sum.inl (σ33, b01 (g100 f (k + 1)), x34, x35, nI k + 1)) := by
        unfold m_look_L16
        rw [if_neg (ge8 hk2), e7, B1_some, s1, B1_some, btJ hV hk2]
      by_cases g0 : f k ≤ 0
      · have hn : bt A k ≠ 1 := fun g => ((hbt k hk2).mp g).1 g0
        rw [if_pos g0, B3_some] at e1
        refine Or.inl ⟨hk2, _, e1, by omega, τ1, ?_, hM1, by rw [skip hn]; exact h60⟩
        unfold rch
        rw [skip hn, nI_1]
      · rw [if_neg g0] at e1
        by_cases g1 : bt V k = 1
        · have hy : bt A k = 1 := (hbt k hk2).mpr ⟨g0, g1⟩
          have hm8 : mem8 A (k + 1) = mem8 A k ++ [k] := by rw [mem8_s, if_pos hy]
          rw [g1, if_pos (show nI 1 = 1 from rfl)] at e1
          have w : ∃ τ2, ((if 6 ≤ nI (mem8 A k).length then (some τ1) else (B1 (wrA 6 τ1 60 (nI (mem8 A k).length) (nI k)) fun σ38 => some σ38)) : Option St) = some τ2 ∧ ScM τ0 τ2 ∧ ∀ i, i < (mem8 A (k + 1)).length → i < 6 → cA τ2 60 i = nI ((mem8 A (k + 1)).getD i 0) := by
            rw [hm8]
            by_cases g6 : 6 ≤ (mem8 A k).length
            · refine ⟨τ1, if_pos (show (6 : Int32) ≤ nI (mem8 A k).length from nI_le (a := 6) g6 (by omega)), hM1, fun i hi hi6 => ?_⟩
              rw [h60 i (by omega) hi6]
              simp [List.getElem?_append_left (show i < (mem8 A k).length by omega)]
            · rw [if_neg (show ¬ (6 : Int32) ≤ nI (mem8 A k).length from nI_ge (b := 6) (by omega) (by decide)), wrA_nI (by omega) (by decide), B1_some]
              refine ⟨_, rfl, hM1.wA (by decide), fun i hi hi6 => ?_⟩
              rw [cA_sA, if_pos rfl]
              by_cases q : i = (mem8 A k).length
              · rw [q, upd_at]; simp
              · have hi2 : i < (mem8 A k).length := by simp at hi; omega
                rw [upd_ne _ q, h60 i hi2 hi6]
                simp [List.getElem?_append_left hi2]
          obtain ⟨τ2, w1, w2, w3⟩ := w
          rw [w1, B1_some] at e1
          have hrs : rch τ0 z now A (k + 1) = (rch τ0 z now A k && (co τ0 z now k).isSome) := by
            unfold rch
            rw [hm8, List.all_append]
            simp
          have hl2 : (mem8 A (k + 1)).length = (mem8 A k).length + 1 := by rw [hm8]; simp
          rcases Bool.eq_false_or_eq_true (rch τ0 z now A k) with hr | hr
          · have e5 : cI τ2 5 = nI now := (w2.1 5 (by decide)).trans m5
            obtain ⟨-, ⟨f2, c2⟩, c3⟩ := co_is h ScC.rfl w2 hz (show now ≤ 50000000 by omega) hk2
            have hlast : ((if (100000000 : Int32) ≤ eM (co τ0 z now k) then some (sAr τ2 15 f2, 0) else some (sAr τ2 15 f2, 1)) : Option (St × Int32)) = some (sAr τ2 15 f2, b01 (co τ0 z now k).isSome) := by
              cases hc : co τ0 z now k with
              | none => exact if_pos (Int32.le_refl _)
              | some t =>
                have := (c3 t hc).2
                exact if_neg (nI_ge (b := 100000000) (by omega) (by decide))
            refine Or.inl ⟨hk2, (sAr τ2 15 f2, b01 (g100 f (k + 1)), nI (mem8 A (k + 1)).length, b01 (rch τ0 z now A (k + 1)), nI (k + 1)), ?_, by omega, sAr τ2 15 f2, rfl, w2.wAr (by decide), fun i hi hi6 => by rw [cA_sAr_ne _ (by decide)]; exact w3 i hi hi6⟩
            show m_look_L16 (nI z) (nI rr) (nI V) τ1 (b01 (g100 f k)) (nI (mem8 A k).length) (b01 (rch τ0 z now A k)) (nI k) = _
            rw [e1, hrs, hr, Bool.true_and, b01_t, if_neg k10, e5, c2, B2_some, hlast, B2_some, B3_some, hl2, nI_1, nI_1]
          · refine Or.inl ⟨hk2, (τ2, b01 (g100 f (k + 1)), nI (mem8 A (k + 1)).length, b01 (rch τ0 z now A (k + 1)), nI (k + 1)), ?_, by omega, τ2, rfl, w2, w3⟩
            show m_look_L16 (nI z) (nI rr) (nI V) τ1 (b01 (g100 f k)) (nI (mem8 A k).length) (b01 (rch τ0 z now A k)) (nI k) = _
            rw [e1, hrs, hr, Bool.false_and, b01_f, if_pos k00, B2_some, B3_some, hl2, nI_1, nI_1]
        · have hb0 : bt V k = 0 := by have := bt_le V k; omega
          have hn : bt A k ≠ 1 := fun g => g1 ((hbt k hk2).mp g).2
          rw [hb0, if_neg (show ¬ nI 0 = 1 by decide), B3_some] at e1
          refine Or.inl ⟨hk2, _, e1, by omega, τ1, ?_, hM1, by rw [skip hn]; exact h60⟩
          unfold rch
          rw [skip hn, nI_1]
  obtain ⟨e, k1, τ', rfl, k2, k3⟩ := key
  exact ⟨τ', k1, k2, k3⟩
end Look7
