/-! plain law: pairs, whole -/
section Pairs4
variable {σ σ' σ0 τ τ' τ0 : St} {rr : Nat}
theorem R.prt (h : R σ τ) (hq : Req σ' τ') (hI : ∀ k, cI τ' k = cI τ k) (hL : ∀ k, cL σ' k = cL σ k) (hA : ∀ k, 33 ≤ k → k ≠ 43 → cA σ' k = cA σ k) (hM : ∀ k, k ≠ 55 → cA τ' k = cA τ k) : R σ' τ' := by
  obtain ⟨w, n, N, q, h1, h2, h3, h4, h5, h6, h7, h8, h9, h10⟩ := h
  refine ⟨w, n, N, q, ?_, hq, ?_, ?_, ?_, ?_, ?_, ?_, ?_, ?_⟩
  · unfold Cn
    rw [hI, hI, hI, hI]
    exact h1
  · rw [hM 6 (by decide), hM 7 (by decide), hM 9 (by decide), hM 10 (by decide)]
    exact ⟨h3.1.to (fun k _ => hL _) (fun k _ => hA _ (by omega) (by omega)), h3.2.to (fun k _ => hL _) (fun k _ => hA _ (by omega) (by omega))⟩
  · exact h4.to (fun k _ => hL k) (fun k hk => hA k (by omega) (by omega)) (fun k hk => hM k (by
      have : ∀ k ∈ dynM, k ≠ 55 := by decide
      exact this k hk))
  · rw [hA 36 (by decide) (by decide), hA 37 (by decide) (by decide), hA 38 (by decide) (by decide), hA 39 (by decide) (by decide), hM 43 (by decide), hM 41 (by decide), hM 42 (by decide)]
    exact h5
  · rw [hI, hI, hA 48 (by decide) (by decide), hM 59 (by decide)]
    exact h6
  · rw [hM 35 (by decide), hM 36 (by decide), hM 37 (by decide), hM 38 (by decide), hM 39 (by decide), hM 20 (by decide), hM 26 (by decide)]
    exact h7
  · rw [hM 18 (by decide), hM 19 (by decide), hM 20 (by decide), hM 29 (by decide), hM 30 (by decide), hM 31 (by decide)]
    exact h8
  · rw [hM 21 (by decide), hM 22 (by decide), hM 23 (by decide)]
    exact h9
  · rw [hM 11 (by decide), hM 12 (by decide), hM 13 (by decide), hM 14 (by decide)]
    exact h10
theorem bits_tot (a : Int32) : ∃ v, m_bits a = some v := by
  have key : ∃ e, lq2 (m_bits_L1 a) 0 0 = some e ∧ True := by
    unfold lq2
    refine lp_forI 14 (fun k (q : Int32 × Int32) => k ≤ 14 ∧ q.2 = nI k) _ ?_ (i := 0) ⟨by omega, nI_0.symm⟩
    rintro k ⟨x, y⟩ ⟨hk, hy⟩
    dsimp only at hy
    subst hy
    by_cases h14 : k = 14
    · subst h14
      exact Or.inr ⟨_, by show m_bits_L1 a _ (nI 14) = _; unfold m_bits_L1; rw [if_pos (by decide)], trivial⟩
    · have hk2 : k < 14 := by omega
      refine Or.inl ⟨hk2, (x + ((a >>> (nI k &&& 31)) &&& 1), nI k + 1), ?_, by omega, nI_1 k⟩
      show m_bits_L1 a x (nI k) = _
      unfold m_bits_L1
      rw [if_neg (show ¬ (14 : Int32) ≤ nI k from nI_ge (b := 14) hk2 (by decide))]
  obtain ⟨e, k1, -⟩ := key
  unfold m_bits
  rw [k1, B1_some]
  exact ⟨_, rfl⟩
/-- from 56 to 57, from 57 to 55 -/
theorem cp_57 {step : St → Int32 → Option ((St × Int32) ⊕ St)} {a b : Nat} (hab : a ≠ b) (hst : ∀ s x, step s x = if 6 ≤ x then some (Sum.inr s) else B1 (rdA 6 s a x) fun v => B1 (wrA 6 s b x v) fun s' => some (Sum.inl (s', x + 1))) : ∃ f, lq2 step τ 0 = some (sAr τ b f) ∧ ∀ j, f j = if j < 6 then cA τ a j else cA τ b j := by
  have key : ∃ e, lq2 step τ 0 = some e ∧ ∃ f, e = sAr τ b f ∧ ∀ j, f j = if j < 6 then cA τ a j else cA τ b j := by
    unfold lq2
    refine lp_forI 6 (fun i (p : St × Int32) => i ≤ 6 ∧ p.2 = nI i ∧ ∃ f, p.1 = sAr τ b f ∧ ∀ j, f j = if j < i then cA τ a j else cA τ b j) _ ?_ (i := 0) ⟨by omega, nI_0.symm, _, (sAr_self τ b).symm, fun j => by rw [if_neg (Nat.not_lt_zero j)]⟩
    rintro i ⟨s, z⟩ ⟨hi, hz, f, hs, hf⟩
    dsimp only at hz hs
    subst hz hs
    by_cases h6 : i = 6
    · subst h6
      exact Or.inr ⟨_, by show step _ (nI 6) = _; rw [hst, if_pos (by decide)], f, rfl, hf⟩
    · have hi2 : i < 6 := by omega
      refine Or.inl ⟨hi2, (sAr τ b (upd f i (cA τ a i)), nI i + 1), ?_, by omega, nI_1 i, _, rfl, fun j => ?_⟩
      · show step _ (nI i) = _
        rw [hst, if_neg (show ¬ (6 : Int32) ≤ nI i from nI_ge (b := 6) hi2 (by decide)), rdA_nI hi2 (by decide), B1_some, wrA_nI hi2 (by decide), B1_some, sA_sAr, cA_sAr_ne _ hab]
      · by_cases q : j = i
        · rw [q, upd_at, if_pos (by omega)]
        · rw [upd_ne _ q, hf j]
          by_cases q2 : j < i
          · rw [if_pos q2, if_pos (by omega)]
          · rw [if_neg q2, if_neg (by omega)]
  obtain ⟨e, k1, f, rfl, k2⟩ := key
  exact ⟨f, k1, k2⟩
def BsM (σ : St) (x : Int32) (b : Bs) : Prop := (b = none ∧ x = 100000000) ∨ ∃ v r, b = some (v, r) ∧ v ≤ 168000 ∧ x = nI v ∧ ∀ j, j < 6 → cA σ 57 j = r j
theorem codes_M (h : R σ0 τ0) (hY : rwY τ0 rr) (hrr : rr < 6) {S : Nat} (hS : S < 64) : ∃ τ' x, lq3 (m_pairs_L27 (nI S) (nI rr)) τ0 100000000 0 = some (τ', x) ∧ ScM τ0 τ' ∧ BsM τ' x (fo (pe τ0 rr) 3 (S, 0, fun _ => -9) none) := by
  have key : ∃ e, lq3 (m_pairs_L27 (nI S) (nI rr)) τ0 100000000 0 = some e ∧ ScM τ0 e.1 ∧ BsM e.1 e.2 (itr (fun c b => oB (fun s b => upB b s) (chn (pe τ0 rr) (S, 0, fun _ => -9) c 3) b) 216 none) := by
    unfold lq3
    refine lp_forI 216 (fun c (p : St × Int32 × Int32) => c ≤ 216 ∧ p.2.2 = nI c ∧ ScM τ0 p.1 ∧ BsM p.1 p.2.1 (itr (fun c b => oB (fun s b => upB b s) (chn (pe τ0 rr) (S, 0, fun _ => -9) c 3) b) c none)) _ ?_ (i := 0) ⟨by omega, nI_0.symm, ScM.rfl, Or.inl ⟨rfl, rfl⟩⟩
    rintro c ⟨σ28, x29, z⟩ ⟨hc, hz, hM, hB⟩
    dsimp only at hz hM hB
    subst hz
    by_cases h216 : c = 216
    · subst h216
      exact Or.inr ⟨(σ28, x29), by show m_pairs_L27 _ _ _ _ (nI 216) = _; unfold m_pairs_L27; rw [if_pos (by decide)], hM, hB⟩
    · have hc2 : c < 216 := by omega
      obtain ⟨σ35, p1, p2, p3⟩ := pw_is h hY hrr hM hS hc2
      have e1 : m_pairs_L27 (nI S) (nI rr) σ28 x29 (nI c) = B2 ((if x29 ≤ eM ((chn (pe τ0 rr) (S, 0, fun _ => -9) c 3).map fun s => s.2.1) then (some (σ35, x29)) else (B1 (lq2 (m_pairs_L39) σ35 0) fun σ42 => some (σ42, eM ((chn (pe τ0 rr) (S, 0, fun _ => -9) c 3).map fun s => s.2.1)))) : Option (St × Int32)) fun σ37 x38 => some (Sum.inl (σ37, x38, nI c + 1)) := by
        unfold m_pairs_L27
        rw [if_neg (show ¬ (216 : Int32) ≤ nI c from nI_ge (b := 216) hc2 (by decide)), p1, B2_some]
      have hB2 : ∀ {b : Bs}, BsM σ28 x29 b → BsM σ35 x29 b := fun hb => by
        unfold BsM at hb ⊢
        rw [p2.2.2 57 (by decide) (by decide)]
        exact hb
      have hxle : x29 ≤ 100000000 := by
        rcases hB with ⟨-, g⟩ | ⟨v, r, -, g1, g2, -⟩
        · rw [g]; exact Int32.le_refl _
        · rw [g2]; exact (nI_le (by omega) (by decide) : nI v ≤ nI 100000000)
      cases hs : chn (pe τ0 rr) (S, 0, fun _ => -9) c 3 with
      | none =>
        rw [hs, if_pos (show x29 ≤ eM (Option.map (fun s : Ps => s.2.1) none) from hxle), B2_some] at e1
        refine Or.inl ⟨hc2, _, e1, by omega, nI_1 c, hM.trans p2.sc, ?_⟩
        rw [itr, hs]
        exact hB2 hB
      | some s =>
        obtain ⟨w1, w2⟩ := p3 s hs
        obtain ⟨f, f1, f2⟩ := cp_57 (τ := σ35) (step := m_pairs_L39) (a := 56) (b := 57) (by decide) (fun s x => rfl)
        rw [hs, show eM ((some s).map fun s => s.2.1) = nI s.2.1 from rfl, f1, B1_some] at e1
        have take : BsM (sAr σ35 57 f) (nI s.2.1) (some s.2) := Or.inr ⟨s.2.1, s.2.2, rfl, w1, rfl, fun j hj => by
          rw [cA_sAr_at, f2, if_pos hj]
          exact w2 j hj⟩
        have hM2 : ScM τ0 (sAr σ35 57 f) := (hM.trans p2.sc).wAr (by decide)
        have hup : itr (fun c b => oB (fun s b => upB b s) (chn (pe τ0 rr) (S, 0, fun _ => -9) c 3) b) (c + 1) none = upB (itr (fun c b => oB (fun s b => upB b s) (chn (pe τ0 rr) (S, 0, fun _ => -9) c 3) b) c none) s := by
          rw [itr, hs]
          rfl
        rcases hB with ⟨g0, g1⟩ | ⟨v, r, g0, g1, g2, g3⟩
        · rw [if_neg (show ¬ x29 ≤ nI s.2.1 by rw [g1]; exact (nI_ge (by omega) (by decide) : ¬ nI 100000000 ≤ nI s.2.1)), B2_some] at e1
          refine Or.inl ⟨hc2, _, e1, by omega, nI_1 c, hM2, ?_⟩
          rw [hup, g0]
          exact take
        · by_cases q : s.2.1 < v
          · rw [if_neg (show ¬ x29 ≤ nI s.2.1 by rw [g2]; exact nI_ge q (by omega)), B2_some] at e1
            refine Or.inl ⟨hc2, _, e1, by omega, nI_1 c, hM2, ?_⟩
            rw [hup, g0]
            show BsM _ _ (if s.2.1 < v then some s.2 else some (v, r))
            rw [if_pos q]
            exact take
          · rw [if_pos (show x29 ≤ nI s.2.1 by rw [g2]; exact nI_le (by omega) (by omega)), B2_some] at e1
            refine Or.inl ⟨hc2, _, e1, by omega, nI_1 c, hM.trans p2.sc, ?_⟩
            rw [hup, g0]
            show BsM _ _ (if s.2.1 < v then some s.2 else some (v, r))
            rw [if_neg q]
            exact hB2 (Or.inr ⟨v, r, rfl, g1, g2, g3⟩)
  obtain ⟨⟨t, x⟩, k1, k2, k3⟩ := key
  rw [codes_is] at k3
  exact ⟨t, x, k1, k2, k3⟩
noncomputable def gY (f : Nat → Int32) : Nat → Bool
  | 0 => true
  | k + 1 => gY f k && decide (c_isYard (f k) = some 1)
theorem gY_all {f : Nat → Int32} : ∀ {k : Nat}, gY f k = true → ∀ i, i < k → c_isYard (f i) = some 1
  | 0, _, i, hi => absurd hi (Nat.not_lt_zero i)
  | k + 1, h, i, hi => by
    rw [gY, Bool.and_eq_true] at h
    by_cases q : i = k
    · subst q; exact of_decide_eq_true h.2
    · exact gY_all h.1 i (by omega)
noncomputable def gM (σ : St) (S : Nat) : Nat → Bool
  | 0 => true
  | k + 1 => gM σ S k && (decide (bt S k = 0) || decide (c_maySwap σ (nI k) = some 1))
theorem b01_z : ∀ a : Bool, (b01 a = 0 ↔ a = false) := by decide
theorem some10 : ¬ (some (b01 false) = some 1) := by decide
theorem chk_both (h : R σ τ) {w n N q S : Nat} (hw : Rw w n N q σ τ) (hrr : rr < 6) (hS : S < 64) (hL : cL σ (100 + rr) = some 6) (hrow : ∀ j, j < 6 → cA σ (100 + rr) j = cA τ 7 (40 * rr + j)) : lq3 (c_pairs_L16 σ (nI S) (nI rr)) 1 1 0 = some (b01 (gY (cA σ (100 + rr)) 6), b01 (gM σ S 6)) ∧ lq3 (m_pairs_L11 τ (nI S) (nI rr)) 1 1 0 = some (b01 (gY (cA σ (100 + rr)) 6), b01 (gM σ S 6)) := by
  have key : Sim (lq3 (c_pairs_L16 σ (nI S) (nI rr)) 1 1 0) (lq3 (m_pairs_L11 τ (nI S) (nI rr)) 1 1 0) (fun a b => a = (b01 (gY (cA σ (100 + rr)) 6), b01 (gM σ S 6)) ∧ b = (b01 (gY (cA σ (100 + rr)) 6), b01 (gM σ S 6))) := by
    unfold lq3
    refine lp_sim 6 (fun k (p p' : Int32 × Int32 × Int32) => k ≤ 6 ∧ p = (b01 (gY (cA σ (100 + rr)) k), b01 (gM σ S k), nI k) ∧ p' = (b01 (gY (cA σ (100 + rr)) k), b01 (gM σ S k), nI k)) _ ?_ (i := 0) ⟨by omega, rfl, rfl⟩
    rintro k p p' ⟨hk, rfl, rfl⟩
    by_cases h6 : k = 6
    · subst h6
      refine Or.inr ⟨_, _, ?_, ?_, rfl, rfl⟩
      · show c_pairs_L16 σ _ _ _ _ (nI 6) = _
        unfold c_pairs_L16
        rw [if_pos (by decide)]
      · show m_pairs_L11 τ _ _ _ _ (nI 6) = _
        unfold m_pairs_L11
        rw [if_pos (by decide)]
    · have hk2 : k < 6 := by omega
      have hge : ¬ (6 : Int32) ≤ nI k := nI_ge (b := 6) hk2 (by decide)
      obtain ⟨v, f1, f2, -⟩ := mayS h hw hk2
      have hy : ∃ u : Bool, c_isYard (cA σ (100 + rr) k) = some (b01 u) ∧ m_isYard (cA σ (100 + rr) k) = some (b01 u) ∧ decide (c_isYard (cA σ (100 + rr) k) = some 1) = u := by
        rcases yard_cases (cA σ (100 + rr) k) with ⟨j, hj, -, e1, e2⟩ | ⟨-, e1, e2⟩
        · exact ⟨true, e1, e2, decide_eq_true e1⟩
        · exact ⟨false, e1, e2, decide_eq_false (by rw [e1]; exact some10)⟩
      obtain ⟨u, y1, y2, y3⟩ := hy
      have hv : decide (c_maySwap σ (nI k) = some 1) = v := by
        rw [f1]
        cases v with
        | true => exact decide_eq_true rfl
        | false => exact decide_eq_false some10
      have hx : ∀ X : Bool, ((if nI (bt S k) = 0 then some 1 else (if b01 v = 0 then some 0 else some 1)) : Option Int32) = some (b01 (decide (bt S k = 0) || v)) := fun X => by
        rcases bt_le S k with g | g
        · rw [g, if_pos nI_0]; rfl
        · rw [g, if_neg (show ¬ nI 1 = 0 by decide)]
          cases v with
          | true => rw [b01_t, if_neg k10]; rfl
          | false => rw [b01_f, if_pos k00]; rfl
      refine Or.inl ⟨hk2, (b01 (gY (cA σ (100 + rr)) (k + 1)), b01 (gM σ S (k + 1)), nI k + 1), (b01 (gY (cA σ (100 + rr)) (k + 1)), b01 (gM σ S (k + 1)), nI k + 1), ?_, ?_, by omega, by rw [nI_1], by rw [nI_1]⟩
      · show c_pairs_L16 σ _ _ _ _ (nI k) = _
        unfold c_pairs_L16
        rw [if_neg hge, ixD_is hrr (by decide) hL, B1_some, rdD_nI hL hk2 (by decide), B1_some, y1, B1_some, f1, B1_some, btI hS hk2, hx true, B1_some, b01_and, b01_and, gY, gM, y3, hv]
      · show m_pairs_L11 τ _ _ _ _ (nI k) = _
        unfold m_pairs_L11
        rw [if_neg hge, ix40, rdA_nI (by omega) (by decide), B1_some, ← hrow k hk2, y2, B1_some, f2, B1_some, btI hS hk2, hx true, gY, gM, y3, hv]
        have s1 : ((if b01 (gY (cA σ (100 + rr)) k) = 0 then some 0 else (if b01 u = 0 then some 0 else some 1)) : Option Int32) = some (b01 (gY (cA σ (100 + rr)) k && u)) := by
          cases gY (cA σ (100 + rr)) k <;> cases u <;> rfl
        have s2 : ((if b01 (gM σ S k) = 0 then some 0 else some (b01 (decide (bt S k = 0) || v))) : Option Int32) = some (b01 (gM σ S k && (decide (bt S k = 0) || v))) := by
          cases gM σ S k <;> rfl
        rw [s1, s2, B1_some, B1_some]
  obtain ⟨a, b, k1, k2, rfl, rfl⟩ := key
  exact ⟨k1, k2⟩
end Pairs4
