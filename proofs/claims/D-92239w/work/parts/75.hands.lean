/-! plain law: hands, canBe, detention -/
section Hands
variable {σ σ' τ τ' : St}
/-- where a trailer was by an entry: as a bit -/
def hnd (τ : St) (e : Nat) : Nat := if cA τ 36 e = 0 then 2 ^ nN (cA τ 38 e) else 2 ^ (8 + nN (cA τ 38 e))
theorem hnd_in {w n N q : Nat} (hw : Rw w n N q σ τ) {e : Nat} (he : e < N) (h2 : ¬ (2 : Int32) ≤ cA τ 36 e) : (cA τ 36 e = 0 ∧ ∃ y, y < 8 ∧ cA τ 38 e = nI y) ∨ (cA τ 36 e = 1 ∧ ∃ k, k < 6 ∧ cA τ 38 e = nI k) := by
  obtain ⟨-, -, s, hs, es, h0, h1⟩ := hw.2.2.2.2.2.2.1.1 e he
  rw [es] at h2 ⊢
  have hs2 : s < 2 := by
    exact Nat.lt_of_not_le fun g => h2 (nI_le (a := 2) g (by omega))
  have : s = 0 ∨ s = 1 := by omega
  rcases this with rfl | rfl
  · obtain ⟨y, hy, e1, -⟩ := h0 rfl
    exact Or.inl ⟨rfl, y, hy, e1⟩
  · obtain ⟨⟨k, hk, e1⟩, -⟩ := h1 rfl
    exact Or.inr ⟨rfl, k, hk, e1⟩
theorem hnd_lt {w n N q : Nat} (hw : Rw w n N q σ τ) {e : Nat} (he : e < N) (h2 : ¬ (2 : Int32) ≤ cA τ 36 e) : hnd τ e < 16384 := by
  unfold hnd
  rcases hnd_in hw he h2 with ⟨g1, y, hy, g2⟩ | ⟨g1, k, hk, g2⟩
  · rw [if_pos g1, g2, nN_nI (by omega)]
    exact Nat.lt_of_le_of_lt (Nat.pow_le_pow_right (by decide) (show y ≤ 7 by omega)) (by decide)
  · rw [if_neg (by rw [g1]; decide), g2, nN_nI (by omega)]
    exact Nat.lt_of_le_of_lt (Nat.pow_le_pow_right (by decide) (show 8 + k ≤ 13 by omega)) (by decide)
theorem handOf_is {w n N q : Nat} (hw : Rw w n N q σ τ) {e : Nat} (he : e < N) (h2 : ¬ (2 : Int32) ≤ cA τ 36 e) : c_handOf σ (nI e) = some (nI (hnd τ e)) := by
  have hN := hw.1.2.2.1
  have hq := hw.2.1
  unfold c_handOf hnd
  rw [rdA_nI (by omega) (by decide), B1_some, rdA_nI (by omega) (by decide), hq.A 24 36 (by decide), hq.A 26 38 (by decide)]
  rcases hnd_in hw he h2 with ⟨g1, y, hy, g2⟩ | ⟨g1, k, hk, g2⟩
  · rw [if_pos g1, if_pos g1, B1_some, B1_some, g2, nN_nI (by omega), shl_all y (by omega)]
  · have n1 : ¬ cA τ 36 e = 0 := by rw [g1]; decide
    rw [if_neg n1, if_neg n1, B1_some, B1_some, g2, nN_nI (by omega), show (8 : Int32) + nI k = nI (8 + k) from nI_add 8 k, shl_all (8 + k) (by omega)]
theorem handM_is {w n N q : Nat} (hw : Rw w n N q σ τ) {e : Nat} (he : e < N) (h2 : ¬ (2 : Int32) ≤ cA τ 36 e) : (1 : Int32) <<< ((cA τ 38 e + 8 * cA τ 36 e) &&& 31) = nI (hnd τ e) := by
  unfold hnd
  rcases hnd_in hw he h2 with ⟨g1, y, hy, g2⟩ | ⟨g1, k, hk, g2⟩
  · rw [if_pos g1, g1, g2, nN_nI (by omega), show nI y + 8 * 0 = nI y from Int32.add_zero _, shl_all y (by omega)]
  · have n1 : ¬ cA τ 36 e = 0 := by rw [g1]; decide
    rw [if_neg n1, g1, g2, nN_nI (by omega), show nI k + 8 * 1 = nI (k + 8) from nI_add k 8, Nat.add_comm k 8, shl_all (8 + k) (by omega)]
/-- the bits of hands from first on, j entries long -/
def hsm (τ : St) (t : Int32) (b f : Nat) : Nat → Nat
  | 0 => 0
  | j + 1 => hsm τ t b f j ||| (if cA τ 35 (f + j) = t ∧ ¬ (2 : Int32) ≤ cA τ 36 (f + j) ∧ (j = 0 ∨ b < f + j) then hnd τ (f + j) else 0)
theorem hsm_lt {w n N q : Nat} (hw : Rw w n N q σ τ) (t : Int32) (b f : Nat) : ∀ j, f + j ≤ N → hsm τ t b f j < 16384
  | 0, _ => by show 0 < 16384; decide
  | j + 1, hj => by
    rw [hsm]
    refine or_lt (hsm_lt hw t b f j (by omega)) ?_
    by_cases g : cA τ 35 (f + j) = t ∧ ¬ (2 : Int32) ≤ cA τ 36 (f + j) ∧ (j = 0 ∨ b < f + j)
    · rw [if_pos g]; exact hnd_lt hw (by omega) g.2.1
    · rw [if_neg g]; decide
theorem s_hands (h : R σ τ) (a : Int32) : Sim (c_hands σ a) (m_hands τ a) Rq := by
  obtain ⟨w, n, N, q, hw⟩ := h.rw
  have hN := hw.1.2.2.1
  have hn := hw.1.2.1
  unfold c_hands m_hands
  rcases hw.tcase a with ⟨t, ht, rfl, e3, e4, hT⟩ | ⟨e3, e4⟩
  · rw [e3, e4, B1_some, B1_some, if_neg k10, if_neg k10, hw.c22, ahead_is h.eq hN, B1_some, findTheft_is hN hw.m34, B2_some]
    cases hl : lst (pq τ (nI t) 5 5) N with
    | none =>
      rw [show (none : Option Nat).isSome = false from rfl, b01_f, if_pos k00, if_pos (show e9 none = -9 from rfl)]
      exact (h.tf _ _).same _
    | some e =>
      obtain ⟨he, b, hb, hbe⟩ := theft_b hw hl
      obtain ⟨hb1, hb2, hb3⟩ := lst_in hb
      have hBn : ((some e).bind fun e => lst (pq τ (nI t) 3 4) e) = some b := hb
      -- the one ahead
      have hf : ∃ f, lst (pq τ (nI t) 0 1) b = some f := by
        obtain ⟨e0, g1, g2, g3, g4⟩ := hw.2.2.2.2.2.2.1.2.1 t ht
        unfold pq at hb2
        obtain ⟨q1, q2⟩ := of_decide_eq_true hb2
        have q3 : e0 ≤ b := Nat.le_of_not_lt fun g => g4 b g q1
        have q4 : e0 ≠ b := fun g => by
          subst g
          rw [g3] at q2
          exact absurd q2 (by decide)
        obtain ⟨f, k1, -⟩ := lst_ex (P := pq τ (nI t) 0 1) (show e0 < b by omega) (decide_eq_true ⟨g2, Or.inl g3⟩)
        exact ⟨f, k1⟩
      obtain ⟨f, hf⟩ := hf
      obtain ⟨hf1, hf2, hf3⟩ := lst_in hf
      obtain ⟨ff1, ff2⟩ := of_decide_eq_true (show decide (cA τ 35 f = nI t ∧ (cA τ 36 f = 0 ∨ cA τ 36 f = 1)) = true from hf2)
      have fso : ¬ (2 : Int32) ≤ cA τ 36 f := by
        rcases ff2 with g | g <;> rw [g] <;> decide
      have hno : ∀ k, f < k → k ≤ b → cA τ 35 k = nI t → (2 : Int32) ≤ cA τ 36 k := fun k g1 g2 g3 => by
        by_cases g4 : k = b
        · subst g4
          obtain ⟨-, q2⟩ := of_decide_eq_true (show decide (cA τ 35 k = nI t ∧ (cA τ 36 k = 3 ∨ cA τ 36 k = 4)) = true from hb2)
          rcases q2 with q2 | q2 <;> rw [q2] <;> decide
        · refine Classical.byContradiction fun g5 => ?_
          have := hf3 k g1 (by omega)
          rcases hnd_in hw (show k < N by omega) g5 with ⟨g6, -⟩ | ⟨g6, -⟩
          · rw [show pq τ (nI t) 0 1 k = true from decide_eq_true ⟨g3, Or.inl g6⟩] at this
            cases this
          · rw [show pq τ (nI t) 0 1 k = true from decide_eq_true ⟨g3, Or.inr g6⟩] at this
            cases this
      have he9 : ∀ x : Nat, e9 (some x) = nI x := fun _ => rfl
      rw [show (some e).isSome = true from rfl, b01_t, if_neg k10, he9, if_neg (nI_n9 (by omega)), ahead_is h.eq (by omega), hb, B1_some, he9, ahead_is h.eq (by omega), hf, B1_some, hBn, he9, he9]
      -- the class' loop
      have cl : ∃ r, lq2 (c_hands_L9 σ (nI t) (nI e) (nI b) (nI f)) 0 (nI f) = some r ∧ r = nI (hsm τ (nI t) b f (e - f)) := by
        unfold lq2
        refine lp_forI (e - f) (fun j (p : Int32 × Int32) => j ≤ e - f ∧ p.2 = nI (f + j) ∧ p.1 = nI (hsm τ (nI t) b f j)) _ ?_ (i := 0) ⟨by omega, rfl, nI_0.symm⟩
        rintro j ⟨x, y⟩ ⟨hj, hy, hx⟩
        dsimp only at hy hx
        subst hy hx
        by_cases hje : j = e - f
        · subst hje
          refine Or.inr ⟨_, ?_, rfl⟩
          show c_hands_L9 σ (nI t) (nI e) (nI b) (nI f) (nI (hsm τ (nI t) b f (e - f))) (nI (f + (e - f))) = _
          unfold c_hands_L9
          rw [show f + (e - f) = e by omega, if_pos (Int32.le_refl _)]
        · have hj2 : f + j < e := by omega
          have hj60 : f + j < 60 := by omega
          refine Or.inl ⟨by omega, (nI (hsm τ (nI t) b f (j + 1)), nI (f + j) + 1), ?_, by omega, by rw [nI_1]; rfl, rfl⟩
          show c_hands_L9 σ (nI t) (nI e) (nI b) (nI f) (nI (hsm τ (nI t) b f j)) (nI (f + j)) = _
          unfold c_hands_L9
          rw [if_neg (nI_ge hj2 (by omega)), rdA_nI hj60 (by decide), B1_some, rdA_nI hj60 (by decide), B1_some, h.eq.A 23 35 (by decide), h.eq.A 24 36 (by decide), hsm, ← or_nI]
          by_cases q1 : cA τ 35 (f + j) = nI t
          · rw [if_pos q1]
            by_cases q2 : (2 : Int32) ≤ cA τ 36 (f + j)
            · rw [if_pos q2, B1_some, if_neg (fun g => g.2.1 q2)]
              rfl
            · rw [if_neg q2, handOf_is hw (by omega) q2]
              by_cases q3 : j = 0
              · rw [if_pos (by rw [q3]; rfl), B1_some, B1_some, if_pos ⟨q1, q2, Or.inl q3⟩]
              · rw [if_neg (fun g => q3 (by have := (nI_eq (by omega) (by omega)).mp g; omega))]
                by_cases q4 : b < f + j
                · rw [if_neg (nI_ge q4 (by omega)), B1_some, B1_some, if_pos ⟨q1, q2, Or.inr q4⟩]
                · rw [if_pos (nI_le (by omega) (by omega)), B1_some, if_neg (fun g => by rcases g.2.2 with g | g; exact q3 g; exact q4 g)]
                  rfl
          · rw [if_neg q1, B1_some, if_neg (fun g => q1 g.1)]
            rfl
      have ml : ∃ r, lq2 (m_hands_L6 (nI t) (tf τ (nI b) (nI e))) 0 0 = some r ∧ r = nI (hsm τ (nI t) b f (e - f)) := by
        unfold lq2
        refine lp_forI e (fun k (p : Int32 × Int32) => k ≤ e ∧ p.2 = nI k ∧ (f < k → p.1 = nI (hsm τ (nI t) b f (k - f)))) _ ?_ (i := 0) ⟨by omega, nI_0.symm, fun g => absurd g (Nat.not_lt_zero f)⟩
        rintro k ⟨x, y⟩ ⟨hk, hy, hx⟩
        dsimp only at hy hx
        subst hy
        by_cases hke : k = e
        · subst hke
          refine Or.inr ⟨x, ?_, hx (by omega)⟩
          show m_hands_L6 (nI t) (tf τ (nI b) (nI k)) x (nI k) = _
          unfold m_hands_L6
          rw [tf_to, if_pos (Int32.le_refl _)]
        · have hk2 : k < e := by omega
          have hk60 : k < 60 := by omega
          have hst : m_hands_L6 (nI t) (tf τ (nI b) (nI e)) x (nI k) = (B1 ((if cA τ 35 k = nI t then (if 2 ≤ cA τ 36 k then some x else (if nI b ≤ nI k then some (x ||| (1 <<< ((cA τ 38 k + 8 * cA τ 36 k) &&& 31))) else some (1 <<< ((cA τ 38 k + 8 * cA τ 36 k) &&& 31)))) else some x) : Option Int32) fun x13 => some (Sum.inl (x13, nI k + 1))) := by
            unfold m_hands_L6
            rw [tf_to, if_neg (nI_ge hk2 (by omega)), rdA_nI hk60 (by decide), B1_some, rdA_nI hk60 (by decide), B1_some, rdA_nI hk60 (by decide), B1_some, B1_some, tf_from]
            show (B1 ((if cA τ 35 k = nI t then (if 2 ≤ cA τ 36 k then some x else (B1 ((if nI b ≤ nI k then some (x ||| (1 <<< ((cA τ 38 k + 8 * cA τ 36 k) &&& 31))) else some (1 <<< ((cA τ 38 k + 8 * cA τ 36 k) &&& 31))) : Option Int32) fun x21 => some x21)) else some x) : Option Int32) fun x13 => some (Sum.inl (x13, nI k + 1))) = _
            by_cases g : nI b ≤ nI k
            · rw [if_pos g, B1_some]
            · rw [if_neg g, B1_some]
          by_cases hkf : k < f
          · -- nothing is said of it
            have ex : ∃ x', m_hands_L6 (nI t) (tf τ (nI b) (nI e)) x (nI k) = some (Sum.inl (x', nI k + 1)) := by
              rw [hst]
              by_cases q1 : cA τ 35 k = nI t
              · rw [if_pos q1]
                by_cases q2 : (2 : Int32) ≤ cA τ 36 k
                · rw [if_pos q2, B1_some]; exact ⟨_, rfl⟩
                · rw [if_neg q2]
                  by_cases q3 : nI b ≤ nI k
                  · rw [if_pos q3, B1_some]; exact ⟨_, rfl⟩
                  · rw [if_neg q3, B1_some]; exact ⟨_, rfl⟩
              · rw [if_neg q1, B1_some]; exact ⟨_, rfl⟩
            obtain ⟨x', hx'⟩ := ex
            exact Or.inl ⟨hk2, (x', nI k + 1), hx', by omega, nI_1 k, fun g => by omega⟩
          · refine Or.inl ⟨hk2, (nI (hsm τ (nI t) b f (k + 1 - f)), nI k + 1), ?_, by omega, nI_1 k, fun _ => rfl⟩
            show m_hands_L6 (nI t) (tf τ (nI b) (nI e)) x (nI k) = _
            rw [hst, show k + 1 - f = (k - f) + 1 by omega, hsm, ← or_nI, show f + (k - f) = k by omega]
            by_cases hkeq : k = f
            · subst hkeq
              rw [if_pos ff1, if_neg fso, if_neg (nI_ge hf1 (by omega)), B1_some, handM_is hw (by omega) fso, Nat.sub_self, if_pos ⟨ff1, fso, Or.inl rfl⟩]
              show some (Sum.inl (nI (hnd τ k), nI k + 1)) = some (Sum.inl (0 ||| nI (hnd τ k), nI k + 1))
              rw [Int32.zero_or]
            · have hx2 := hx (by omega)
              rw [hx2]
              by_cases q1 : cA τ 35 k = nI t
              · rw [if_pos q1]
                by_cases q2 : (2 : Int32) ≤ cA τ 36 k
                · rw [if_pos q2, B1_some, if_neg (fun g => g.2.1 q2)]
                  show _ = some (Sum.inl (nI (hsm τ (nI t) b f (k - f)) ||| 0, nI k + 1))
                  rw [Int32.or_zero]
                · have q3 : b < k := Nat.lt_of_not_le fun g => q2 (hno k (by omega) g q1)
                  rw [if_neg q2, if_pos (nI_le (by omega) (by omega)), B1_some, handM_is hw (by omega) q2, if_pos ⟨q1, q2, Or.inr q3⟩]
              · rw [if_neg q1, B1_some, if_neg (fun g => q1 g.1)]
                show _ = some (Sum.inl (nI (hsm τ (nI t) b f (k - f)) ||| 0, nI k + 1))
                rw [Int32.or_zero]
      obtain ⟨r1, l1, rfl⟩ := cl
      obtain ⟨r2, l2, rfl⟩ := ml
      have hlt := hsm_lt hw (nI t) b f (e - f) (by omega)
      rw [l1, l2, B1_some, B1_some, bcf_is hlt, bits_is hlt, B1_some, B1_some]
      exact ⟨_, _, rfl, rfl, rfl, (h.tf _ _).say rfl⟩
  · rw [e3, e4, B1_some, B1_some, if_pos k00, if_pos k00]
    exact h.same _
end Hands
