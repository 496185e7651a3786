/-! plain law: entries are sought -/
def nxt (tr : Nat → Int32) (t : Int32) : Nat → Nat → Option Nat
  | 0, _ => none
  | m + 1, e => if tr e = t then some e else nxt tr t m (e + 1)
def scn (tr : Nat → Int32) (t : Int32) : Nat → Nat → Nat → Option Nat
  | 0, _, _ => none
  | m + 1, e, j => if tr e = t then (if j = 0 then some e else scn tr t m (e + 1) (j - 1)) else scn tr t m (e + 1) j
section Scan
variable {σ τ : St} {tr : Nat → Int32} {t : Int32}
theorem scn_0 : ∀ (m e : Nat), scn tr t m e 0 = nxt tr t m e
  | 0, _ => rfl
  | m + 1, e => by
    rw [scn, nxt, if_pos rfl, scn_0 m (e + 1)]
theorem nxt_in : ∀ (m e : Nat) {k : Nat}, nxt tr t m e = some k → e ≤ k ∧ k < e + m ∧ tr k = t
  | 0, _, _, h => by cases h
  | m + 1, e, k, h => by
    rw [nxt] at h
    by_cases q : tr e = t
    · rw [if_pos q] at h
      cases h
      exact ⟨Nat.le_refl _, by omega, q⟩
    · rw [if_neg q] at h
      obtain ⟨h1, h2, h3⟩ := nxt_in m (e + 1) h
      exact ⟨by omega, by omega, h3⟩
theorem nxt_first : ∀ (m e k : Nat), e ≤ k → k < e + m → tr k = t → (∀ j, e ≤ j → j < k → tr j ≠ t) → nxt tr t m e = some k
  | 0, e, k, h1, h2, _, _ => by omega
  | m + 1, e, k, h1, h2, h3, h4 => by
    rw [nxt]
    by_cases q : e = k
    · subst q
      rw [if_pos h3]
    · rw [if_neg (h4 e (Nat.le_refl _) (by omega))]
      exact nxt_first m (e + 1) k (by omega) (by omega) h3 (fun j hj => h4 j (by omega))
theorem scn_s : ∀ (m e j : Nat), scn tr t m e (j + 1) = (nxt tr t m e).bind (fun k => scn tr t (e + m - (k + 1)) (k + 1) j)
  | 0, _, _ => rfl
  | m + 1, e, j => by
    rw [scn, nxt]
    by_cases q : tr e = t
    · rw [if_pos q, if_pos q, if_neg (by omega)]
      show scn tr t m (e + 1) (j + 1 - 1) = scn tr t (e + (m + 1) - (e + 1)) (e + 1) j
      rw [show j + 1 - 1 = j by omega, show e + (m + 1) - (e + 1) = m by omega]
    · rw [if_neg q, if_neg q, scn_s m (e + 1) j, show e + 1 + m = e + (m + 1) by omega]
theorem entryOf_is {N : Nat} (hN : N ≤ 60) (h22 : cI σ 22 = nI N) (t : Int32) {i : Nat} (hi : i < 2 ^ 31) : c_entryOf σ t (nI i) = some (e9 (scn (cA σ 23) t N 0 i)) := by
  have key : ∃ r, lq2 (c_entryOf_L1 σ t (nI i)) 0 0 = some r ∧ ((r = Sum.inl () ∧ scn (cA σ 23) t N 0 i = none) ∨ ∃ e, r = Sum.inr (nI e) ∧ scn (cA σ 23) t N 0 i = some e) := by
    unfold lq2
    refine lp_forI N (fun e (q : Int32 × Int32) => e ≤ N ∧ q.2 = nI e ∧ ∃ c, c ≤ e ∧ c ≤ i ∧ q.1 = nI c ∧ scn (cA σ 23) t (N - e) e (i - c) = scn (cA σ 23) t N 0 i) _ ?_ (i := 0) ⟨by omega, nI_0.symm, 0, by omega, by omega, nI_0.symm, by rw [Nat.sub_zero, Nat.sub_zero]⟩
    rintro e ⟨x, y⟩ ⟨he, hy, c, hc, hci, hx, hs⟩
    dsimp only at hy hx
    subst hy hx
    by_cases hN2 : e = N
    · subst hN2
      refine Or.inr ⟨Sum.inl (), ?_, Or.inl ⟨rfl, ?_⟩⟩
      · show c_entryOf_L1 σ t (nI i) (nI c) (nI e) = _
        unfold c_entryOf_L1
        rw [h22, if_pos (nI_le (Nat.le_refl _) (by omega))]
      · rw [← hs, Nat.sub_self]
        rfl
    · have he2 : e < N := by omega
      have hNe : N - e = (N - (e + 1)) + 1 := by omega
      rw [hNe, scn] at hs
      have hst : ∀ r, c_entryOf_L1 σ t (nI i) (nI c) (nI e) = r ↔ (if cA σ 23 e = t then (if nI c = nI i then some (Sum.inr (Sum.inr (nI e))) else some (Sum.inl (nI c + 1, nI e + 1))) else some (Sum.inl (nI c, nI e + 1))) = r := fun r => by
        unfold c_entryOf_L1
        rw [h22, if_neg (nI_ge he2 (by omega)), rdA_nI (by omega) (by decide), B1_some]
      by_cases q : cA σ 23 e = t
      · rw [if_pos q] at hs
        by_cases q2 : c = i
        · subst q2
          rw [if_pos (by omega)] at hs
          refine Or.inr ⟨Sum.inr (nI e), (hst _).mpr (by rw [if_pos q, if_pos rfl]), Or.inr ⟨e, rfl, hs.symm⟩⟩
        · rw [if_neg (by omega)] at hs
          refine Or.inl ⟨he2, (nI c + 1, nI e + 1), (hst _).mpr (by rw [if_pos q, if_neg (fun g => q2 ((nI_eq (by omega) hi).mp g))]), by omega, nI_1 e, c + 1, by omega, by omega, nI_1 c, ?_⟩
          rw [show i - (c + 1) = i - c - 1 by omega]
          exact hs
      · rw [if_neg q] at hs
        exact Or.inl ⟨he2, (nI c, nI e + 1), (hst _).mpr (by rw [if_neg q]), by omega, nI_1 e, c, by omega, hci, rfl, hs⟩
  obtain ⟨r, k1, k2⟩ := key
  unfold c_entryOf
  rw [k1]
  rcases k2 with ⟨rfl, k3⟩ | ⟨e, rfl, k3⟩
  · rw [BR1_l, k3]
    rfl
  · rw [BR1_r, k3]
    rfl
theorem entryOf_neg {N : Nat} (hN : N ≤ 60) (h22 : cI σ 22 = nI N) (t : Int32) {a : Int32} (ha : a < 0) : c_entryOf σ t a = some (-9) := by
  have key : ∃ r, lq2 (c_entryOf_L1 σ t a) 0 0 = some r ∧ r = Sum.inl () := by
    unfold lq2
    refine lp_forI N (fun e (q : Int32 × Int32) => e ≤ N ∧ q.2 = nI e ∧ ∃ c, c ≤ e ∧ q.1 = nI c) _ ?_ (i := 0) ⟨by omega, nI_0.symm, 0, by omega, nI_0.symm⟩
    rintro e ⟨x, y⟩ ⟨he, hy, c, hc, hx⟩
    dsimp only at hy hx
    subst hy hx
    have hne : ¬ nI c = a := fun g => by
      rw [← g] at ha
      exact nI_pos (by omega) ha
    by_cases hN2 : e = N
    · subst hN2
      refine Or.inr ⟨Sum.inl (), ?_, rfl⟩
      show c_entryOf_L1 σ t a (nI c) (nI e) = _
      unfold c_entryOf_L1
      rw [h22, if_pos (nI_le (Nat.le_refl _) (by omega))]
    · have he2 : e < N := by omega
      have hst : c_entryOf_L1 σ t a (nI c) (nI e) = (if cA σ 23 e = t then some (Sum.inl (nI c + 1, nI e + 1)) else some (Sum.inl (nI c, nI e + 1))) := by
        unfold c_entryOf_L1
        rw [h22, if_neg (nI_ge he2 (by omega)), rdA_nI (by omega) (by decide), B1_some, if_neg hne]
      by_cases q : cA σ 23 e = t
      · exact Or.inl ⟨he2, (nI c + 1, nI e + 1), by show c_entryOf_L1 σ t a (nI c) (nI e) = _; rw [hst, if_pos q], by omega, nI_1 e, c + 1, by omega, nI_1 c⟩
      · exact Or.inl ⟨he2, (nI c, nI e + 1), by show c_entryOf_L1 σ t a (nI c) (nI e) = _; rw [hst, if_neg q], by omega, nI_1 e, c, by omega, rfl⟩
  obtain ⟨r, k1, rfl⟩ := key
  unfold c_entryOf
  rw [k1, BR1_l]
theorem entryFrom_is {N : Nat} (hN : N ≤ 60) (h34 : cI τ 34 = nI N) (t : Int32) {k : Nat} (hk : k ≤ N) : m_entryFrom τ t (nI k) = some (e9 (nxt (cA τ 35) t (N - k) k)) := by
  have key : ∃ r, lq1 (m_entryFrom_L1 τ t) (nI k) = some r ∧ ((r = nI N ∧ nxt (cA τ 35) t (N - k) k = none) ∨ ∃ e, e < N ∧ r = nI e ∧ nxt (cA τ 35) t (N - k) k = some e) := by
    unfold lq1
    refine lp_forI N (fun e (q : Int32) => e ≤ N ∧ q = nI e ∧ nxt (cA τ 35) t (N - e) e = nxt (cA τ 35) t (N - k) k) _ ?_ (i := k) ⟨hk, rfl, rfl⟩
    rintro e y ⟨he, hy, hs⟩
    subst hy
    by_cases hN2 : e = N
    · subst hN2
      refine Or.inr ⟨nI e, ?_, Or.inl ⟨rfl, ?_⟩⟩
      · show m_entryFrom_L1 τ t (nI e) = _
        unfold m_entryFrom_L1
        rw [h34, if_pos (nI_le (Nat.le_refl _) (by omega))]
      · rw [← hs, Nat.sub_self]
        rfl
    · have he2 : e < N := by omega
      have hNe : N - e = (N - (e + 1)) + 1 := by omega
      rw [hNe, nxt] at hs
      have hst : m_entryFrom_L1 τ t (nI e) = (if cA τ 35 e = t then some (Sum.inr (nI e)) else some (Sum.inl (nI e + 1))) := by
        unfold m_entryFrom_L1
        rw [h34, if_neg (nI_ge he2 (by omega)), rdA_nI (by omega) (by decide), B1_some]
      by_cases q : cA τ 35 e = t
      · rw [if_pos q] at hs
        exact Or.inr ⟨nI e, by show m_entryFrom_L1 τ t (nI e) = _; rw [hst, if_pos q], Or.inr ⟨e, he2, rfl, hs.symm⟩⟩
      · rw [if_neg q] at hs
        exact Or.inl ⟨he2, nI e + 1, by show m_entryFrom_L1 τ t (nI e) = _; rw [hst, if_neg q], by omega, nI_1 e, hs⟩
  obtain ⟨r, k1, k2⟩ := key
  unfold m_entryFrom
  rw [k1, B1_some, h34]
  rcases k2 with ⟨rfl, k3⟩ | ⟨e, he, rfl, k3⟩
  · rw [if_pos (nI_le (Nat.le_refl _) (by omega)), B1_some, k3]
    rfl
  · rw [if_neg (nI_ge he (by omega)), B1_some, k3]
    rfl
theorem e9_lt {o : Option Nat} (h : ∀ k, o = some k → k < 2 ^ 31) : (e9 o < 0 ↔ o = none) ∧ (0 ≤ e9 o ↔ o ≠ none) ∧ (e9 o = -9 ↔ o = none) := by
  cases o with
  | none => exact ⟨⟨fun _ => rfl, fun _ => k9l⟩, ⟨fun g => absurd g k90, fun g => absurd rfl g⟩, ⟨fun _ => rfl, fun _ => rfl⟩⟩
  | some k =>
    have hk := h k rfl
    refine ⟨⟨fun g => absurd g (nI_pos hk), fun g => by cases g⟩, ⟨fun _ g => (by cases g), fun _ => nI_pos' hk⟩, ⟨fun g => absurd g (nI_n9 hk), fun g => by cases g⟩⟩
theorem scn_lt : ∀ (m e j : Nat) {k : Nat}, scn tr t m e j = some k → k < e + m
  | 0, _, _, _, h => by cases h
  | m + 1, e, j, k, h => by
    rw [scn] at h
    by_cases q : tr e = t
    · rw [if_pos q] at h
      by_cases q2 : j = 0
      · rw [if_pos q2] at h
        cases h
        omega
      · rw [if_neg q2] at h
        have := scn_lt m (e + 1) (j - 1) h
        omega
    · rw [if_neg q] at h
      have := scn_lt m (e + 1) j h
      omega
theorem book_loop {N : Nat} (hN : N ≤ 60) (h34 : cI τ 34 = nI N) (t : Int32) {i : Nat} (hi : i < 2 ^ 31) : ∃ x, m_entryFrom τ t 0 = some x ∧ lq2 (m_book_L9 τ t (nI i)) x 0 = some (e9 (scn (cA τ 35) t N 0 i)) := by
  have h0 : m_entryFrom τ t 0 = some (e9 (nxt (cA τ 35) t N 0)) := by
    have := entryFrom_is hN h34 t (k := 0) (by omega)
    rw [Nat.sub_zero] at this
    exact this
  refine ⟨_, h0, ?_⟩
  have key : ∃ r, lq2 (m_book_L9 τ t (nI i)) (e9 (nxt (cA τ 35) t N 0)) 0 = some r ∧ r = e9 (scn (cA τ 35) t N 0 i) := by
    unfold lq2
    refine lp_forI 61 (fun c (q : Int32 × Int32) => q.2 = nI c ∧ c ≤ i ∧ ∃ o, q.1 = e9 o ∧ (∀ k, o = some k → c ≤ k ∧ k < N ∧ scn (cA τ 35) t N 0 i = (if i = c then some k else scn (cA τ 35) t (N - (k + 1)) (k + 1) (i - c - 1))) ∧ (o = none → scn (cA τ 35) t N 0 i = none)) _ ?_ (i := 0) ⟨nI_0.symm, by omega, nxt (cA τ 35) t N 0, rfl, fun k hk => ?_, fun hk => ?_⟩
    · rintro c ⟨x, y⟩ ⟨hy, hci, o, hx, h1, h2⟩
      dsimp only at hy hx
      subst hy hx
      by_cases hc : c = i
      · subst hc
        refine Or.inr ⟨e9 o, ?_, ?_⟩
        · show m_book_L9 τ t (nI c) (e9 o) (nI c) = _
          unfold m_book_L9
          rw [if_pos (nI_le (Nat.le_refl _) hi)]
        · cases o with
          | none => rw [h2 rfl]
          | some k => rw [(h1 k rfl).2.2, if_pos rfl]
      · cases o with
        | none =>
          refine Or.inr ⟨e9 none, ?_, by rw [h2 rfl]⟩
          show m_book_L9 τ t (nI i) (e9 none) (nI c) = _
          unfold m_book_L9
          rw [if_neg (nI_ge (by omega) hi), if_pos (show e9 none < 0 from k9l)]
        | some k =>
          obtain ⟨g1, g2, g3⟩ := h1 k rfl
          rw [if_neg (Ne.symm hc)] at g3
          have hf := entryFrom_is hN h34 t (k := k + 1) (by omega)
          refine Or.inl ⟨by omega, (e9 (nxt (cA τ 35) t (N - (k + 1)) (k + 1)), nI c + 1), ?_, nI_1 c, by omega, _, rfl, fun k' hk' => ?_, fun hk' => ?_⟩
          · show m_book_L9 τ t (nI i) (nI k) (nI c) = _
            unfold m_book_L9
            rw [if_neg (nI_ge (by omega) hi), if_neg (nI_pos (by omega)), nI_1, hf, B1_some]
          · obtain ⟨l1, l2, l3⟩ := nxt_in _ _ hk'
            refine ⟨by omega, by omega, ?_⟩
            rw [g3]
            by_cases q : i = c + 1
            · rw [if_pos q, show i - c - 1 = 0 by omega, scn_0, hk']
            · rw [if_neg q, show i - c - 1 = (i - (c + 1) - 1) + 1 by omega, scn_s, hk']
              show scn _ _ (k + 1 + (N - (k + 1)) - (k' + 1)) (k' + 1) _ = _
              rw [show k + 1 + (N - (k + 1)) = N by omega]
          · rw [g3]
            by_cases q : i = c + 1
            · rw [show i - c - 1 = 0 by omega, scn_0, hk']
            · rw [show i - c - 1 = (i - (c + 1) - 1) + 1 by omega, scn_s, hk']
              rfl
    · obtain ⟨l1, l2, l3⟩ := nxt_in _ _ hk
      refine ⟨by omega, by omega, ?_⟩
      by_cases q : i = 0
      · rw [if_pos q, q, scn_0, hk]
      · rw [if_neg q, show i = (i - 1) + 1 by omega, scn_s, hk]
        show scn _ _ (0 + N - (k + 1)) (k + 1) _ = _
        rw [show 0 + N = N by omega, show i - 1 + 1 - 0 - 1 = i - 1 by omega]
    · by_cases q : i = 0
      · rw [q, scn_0, hk]
      · rw [show i = (i - 1) + 1 by omega, scn_s, hk]
        rfl
  obtain ⟨r, k1, rfl⟩ := key
  exact k1
theorem s_book (h : R σ τ) (a b c : Int32) : Sim (c_book σ a b c) (m_book τ a b c) Eq := by
  obtain ⟨w, n, N, q, hw⟩ := h.rw
  have hN := hw.1.2.2.1
  unfold c_book m_book
  rcases hw.tcase a with ⟨t, ht, rfl, e3, e4, hT⟩ | ⟨e3, e4⟩
  · rw [e3, e4, B1_some, B1_some, if_neg k10, if_neg k10, m_in_c]
    rcases in_cases c 0 2 with ⟨-, -, e5⟩ | ⟨-, e5⟩
    · rw [e5, B1_some, B1_some, if_neg k10, if_neg k10]
      -- what is found on both sides
      have key : ∃ o, (∀ k, o = some k → k < N) ∧ c_entryOf σ (nI t) b = some (e9 o) ∧ (B1 ((if 0 ≤ b then (B1 (m_entryFrom τ (nI t) 0) fun v8 => some v8) else some (-9)) : Option Int32) fun x6 => B1 (lq2 (m_book_L9 τ (nI t) b) x6 0) fun x12 => some x12) = some (e9 o) := by
        by_cases hb : b < 0
        · refine ⟨none, fun k hk => (by cases hk), entryOf_neg hN hw.c22 _ hb, ?_⟩
          rw [if_neg (fun g => by rw [i32_le] at g; rw [i32_lt] at hb; omega), B1_some]
          have : lq2 (m_book_L9 τ (nI t) b) (-9) 0 = some (-9) := by
            refine lp_end ?_
            show m_book_L9 τ (nI t) b (-9) 0 = _
            unfold m_book_L9
            rw [if_pos (by rw [i32_le]; rw [i32_lt] at hb; omega)]
          rw [this, B1_some]
          rfl
        · obtain ⟨i, hi, rfl⟩ := nI_of hb
          obtain ⟨x, g1, g2⟩ := book_loop hN hw.m34 (nI t) hi
          refine ⟨scn (cA τ 35) (nI t) N 0 i, fun k hk => by have := scn_lt _ _ _ hk; omega, ?_, ?_⟩
          · rw [entryOf_is hN hw.c22 _ hi, h.eq.A 23 35 (by decide)]
          · rw [if_pos (nI_pos' hi), g1, B1_some, B1_some, g2, B1_some]
      obtain ⟨o, k1, k2, k3⟩ := key
      -- the reference's tail
      have tail : ∀ {γ : Type} (f : Int32 → Option γ), (B1 ((if 0 ≤ b then (B1 (m_entryFrom τ (nI t) 0) fun v8 => some v8) else some (-9)) : Option Int32) fun x6 => B1 (lq2 (m_book_L9 τ (nI t) b) x6 0) f) = f (e9 o) := fun f => by
        cases hx : ((if 0 ≤ b then (B1 (m_entryFrom τ (nI t) 0) fun v8 => some v8) else some (-9)) : Option Int32) with
        | none => rw [hx] at k3; cases k3
        | some x =>
          rw [hx, B1_some] at k3
          rw [B1_some]
          cases hy : lq2 (m_book_L9 τ (nI t) b) x 0 with
          | none => rw [hy] at k3; cases k3
          | some y =>
            rw [hy, B1_some] at k3
            cases k3
            rw [B1_some]
      rw [k2, B1_some, tail]
      obtain ⟨p1, p2, p3⟩ := e9_lt (o := o) (fun k hk => by have := k1 k hk; omega)
      cases o with
      | none =>
        rw [if_pos (p3.mpr rfl), if_neg (fun g => p2.mp g rfl), B1_some]
        exact ⟨_, _, rfl, rfl, rfl⟩
      | some k =>
        have hk := k1 k rfl
        have hk60 : k < 60 := by omega
        have ek : e9 (some k) = nI k := rfl
        rw [if_neg (fun g => by cases p3.mp g), if_pos (p2.mpr (fun g => by cases g)), ek]
        simp only [rdA_nI hk60 l60, B1_some, h.eq.A 24 36 (by decide), h.eq.A 25 37 (by decide), h.eq.A 26 38 (by decide)]
        by_cases h0 : c = 0
        · simp only [if_pos h0, B1_some]; exact ⟨_, _, rfl, rfl, rfl⟩
        · simp only [if_neg h0]
          by_cases h1 : c = 1
          · simp only [if_pos h1, B1_some]; exact ⟨_, _, rfl, rfl, rfl⟩
          · simp only [if_neg h1, B1_some]; exact ⟨_, _, rfl, rfl, rfl⟩
    · rw [e5, B1_some, B1_some, if_pos k00, if_pos k00]
      exact ⟨_, _, rfl, rfl, rfl⟩
  · rw [e3, e4, B1_some, B1_some, if_pos k00, if_pos k00]
    exact ⟨_, _, rfl, rfl, rfl⟩
end Scan
