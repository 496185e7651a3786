/-! plain law: look, the next order -/
section Look3
variable {σ σ' σ0 τ τ' τ0 : St} {rr : Nat}
theorem gset {p : List Nat} {i v j : Nat} (hi : i < p.length) : (p.set i v).getD j 0 = if j = i then v else p.getD j 0 := by
  rw [List.getD_eq_getElem?_getD, List.getD_eq_getElem?_getD, List.getElem?_set]
  by_cases h : i = j
  · subst h
    rw [if_pos rfl, if_pos hi, if_pos rfl]
    rfl
  · rw [if_neg h, if_neg (Ne.symm h)]
/-- an order lies in 61 -/
def PA (f : Nat → Int32) (m : Nat) (p : List Nat) : Prop := p.length = m ∧ (∀ j, p.getD j 0 < 6) ∧ ∀ j, j < m → f j = nI (p.getD j 0)
theorem PA.swap {f : Nat → Int32} {m : Nat} {p : List Nat} (h : PA f m p) {a b : Nat} (ha : a < m) (hb : b < m) : PA (upd (upd f a (f b)) b (f a)) m ((p.set a (p.getD b 0)).set b (p.getD a 0)) := by
  obtain ⟨h1, h2, h3⟩ := h
  have hl : (p.set a (p.getD b 0)).length = m := by rw [List.length_set, h1]
  refine ⟨by rw [List.length_set, hl], fun j => ?_, fun j hj => ?_⟩
  · rw [gset (by omega), gset (by omega)]
    by_cases q : j = b
    · rw [if_pos q]; exact h2 _
    · rw [if_neg q]
      by_cases q2 : j = a
      · rw [if_pos q2]; exact h2 _
      · rw [if_neg q2]; exact h2 _
  · rw [gset (by omega), gset (by omega)]
    by_cases q : j = b
    · rw [if_pos q, q, upd_at, h3 a ha]
    · rw [if_neg q, upd_ne _ q]
      by_cases q2 : j = a
      · rw [if_pos q2, q2, upd_at, h3 b hb]
      · rw [if_neg q2, upd_ne _ q2, h3 j hj]
theorem fdn_lt {p : List Nat} : ∀ {k i : Nat}, fdn p k = some i → i < k
  | 0, i, h => by cases h
  | k + 1, i, h => by
    rw [fdn] at h
    by_cases g : p.getD k 0 ≤ p.getD (k + 1) 0
    · rw [if_pos g] at h; cases h; omega
    · rw [if_neg g] at h
      have := fdn_lt h
      omega
theorem fjn_le {p : List Nat} {i : Nat} : ∀ k, fjn p i k ≤ k
  | 0 => Nat.le_refl _
  | k + 1 => by
    rw [fjn]
    by_cases g : p.getD i 0 ≤ p.getD (k + 1) 0
    · rw [if_pos g]; exact Nat.le_refl _
    · rw [if_neg g]
      have := fjn_le (p := p) (i := i) k
      omega
theorem nI_le6 {a b : Nat} (ha : a < 6) (hb : b < 6) : nI a ≤ nI b ↔ a ≤ b := by
  constructor
  · intro h
    exact Nat.le_of_not_lt fun g => nI_ge g (by omega) h
  · intro h
    exact nI_le h (by omega)
theorem ord_1 {m : Nat} {p : List Nat} (hm : m ≤ 6) (hp : PA (cA τ 61) (m + 1) p) (hm2 : m + 1 ≤ 6) : lq1 (m_nextOrder_L1 τ) (nI m - 1) = some (match fdn p m with | none => -1 | some i => nI i) := by
  obtain ⟨h1, h2, h3⟩ := hp
  have key : ∃ e, lq1 (m_nextOrder_L1 τ) (nI m - 1) = some e ∧ e = (match fdn p m with | none => -1 | some i => nI i) := by
    unfold lq1
    refine lp_forI m (fun k (x : Int32) => k ≤ m ∧ x = nI (m - k) - 1 ∧ fdn p (m - k) = fdn p m) _ ?_ (i := 0) ⟨by omega, rfl, rfl⟩
    rintro k x ⟨hk, rfl, hf⟩
    by_cases h0 : k = m
    · subst h0
      rw [Nat.sub_self] at hf ⊢
      refine Or.inr ⟨nI 0 - 1, ?_, ?_⟩
      · unfold m_nextOrder_L1
        rw [if_pos m1_lt]
      · rw [← hf]
        rfl
    · rw [show m - k = (m - (k + 1)) + 1 by omega, fdn] at hf
      rw [show m - k = (m - (k + 1)) + 1 by omega, pd_s]
      have e1 : m_nextOrder_L1 τ (nI (m - (k + 1))) = if p.getD (m - (k + 1)) 0 ≤ p.getD (m - (k + 1) + 1) 0 then some (Sum.inr (nI (m - (k + 1)))) else some (Sum.inl (nI (m - (k + 1)) + -1)) := by
        unfold m_nextOrder_L1
        rw [if_neg (nI_pos (by omega)), rdA_nI (by omega) (by decide), B1_some, nI_1, rdA_nI (by omega) (by decide), B1_some, h3 _ (by omega), h3 _ (by omega)]
        by_cases g : p.getD (m - (k + 1)) 0 ≤ p.getD (m - (k + 1) + 1) 0
        · rw [if_pos ((nI_le6 (h2 _) (h2 _)).mpr g), if_pos g]
        · rw [if_neg (fun q => g ((nI_le6 (h2 _) (h2 _)).mp q)), if_neg g]
      by_cases g : p.getD (m - (k + 1)) 0 ≤ p.getD (m - (k + 1) + 1) 0
      · rw [if_pos g] at hf e1
        refine Or.inr ⟨_, e1, ?_⟩
        rw [← hf]
      · rw [if_neg g] at hf e1
        refine Or.inl ⟨by omega, _, e1, by omega, ?_, hf⟩
        rw [← Int32.sub_eq_add_neg]
  obtain ⟨e, k1, rfl⟩ := key
  exact k1
theorem ord_8 {m i : Nat} {p : List Nat} (hm : m < 6) (hp : PA (cA τ 61) (m + 1) p) (hi : i ≤ m) : lq1 (m_nextOrder_L8 τ (nI i)) (nI m) = some (nI (fjn p i m)) ∧ i ≤ fjn p i m := by
  obtain ⟨h1, h2, h3⟩ := hp
  have key : ∃ e, lq1 (m_nextOrder_L8 τ (nI i)) (nI m) = some e ∧ e = nI (fjn p i m) ∧ i ≤ fjn p i m := by
    unfold lq1
    refine lp_forI (m - i) (fun k (x : Int32) => k ≤ m - i ∧ x = nI (m - k) ∧ fjn p i (m - k) = fjn p i m) _ ?_ (i := 0) ⟨by omega, rfl, rfl⟩
    rintro k x ⟨hk, rfl, hf⟩
    have e1 : m_nextOrder_L8 τ (nI i) (nI (m - k)) = if p.getD i 0 ≤ p.getD (m - k) 0 then some (Sum.inr (nI (m - k))) else some (Sum.inl (nI (m - k) + -1)) := by
      unfold m_nextOrder_L8
      rw [rdA_nI (by omega) (by decide), B1_some, rdA_nI (by omega) (by decide), B1_some, h3 _ (by omega), h3 _ (by omega)]
      by_cases g : p.getD i 0 ≤ p.getD (m - k) 0
      · rw [if_pos ((nI_le6 (h2 _) (h2 _)).mpr g), if_pos g]
      · rw [if_neg (fun q => g ((nI_le6 (h2 _) (h2 _)).mp q)), if_neg g]
    by_cases g : p.getD i 0 ≤ p.getD (m - k) 0
    · rw [if_pos g] at e1
      have hfe : fjn p i (m - k) = m - k := by
        cases hmk : m - k with
        | zero => rfl
        | succ j =>
          rw [fjn, ← hmk, if_pos g]
      refine Or.inr ⟨_, e1, ?_, ?_⟩
      · rw [← hf, hfe]
      · rw [← hf, hfe]; omega
    · rw [if_neg g] at e1
      have hne : m - k ≠ i := fun q => g (by rw [q]; exact Nat.le_refl _)
      have hs : m - k = (m - (k + 1)) + 1 := by omega
      refine Or.inl ⟨by omega, _, e1, by omega, ?_, ?_⟩
      · rw [← Int32.sub_eq_add_neg, hs, pd_s]
      · rw [← hf, hs, fjn, ← hs, if_neg g]
  obtain ⟨e, k1, rfl, k2⟩ := key
  exact ⟨k1, k2⟩
theorem sA2 (τ : St) (a b : Nat) (v v' : Int32) : sA (sA τ 61 a v) 61 b v' = sAr τ 61 (upd (upd (cA τ 61) a v) b v') := by
  rw [sA_eq τ, sA_sAr]
theorem ord_23 {m : Nat} (hm : m ≤ 6) : ∀ (f : Nat) (p : List Nat) (a b : Nat) (τ : St), PA (cA τ 61) m p → b ≤ a + 2 * f → b < m → a ≤ 6 → ∃ g, lq3 (m_nextOrder_L23) τ (nI a) (nI b) = some (sAr τ 61 g) ∧ PA g m (rvn f p a b) := by
  intro f
  induction f with
  | zero =>
    intro p a b τ hp hab hb ha
    refine ⟨cA τ 61, ?_, hp⟩
    rw [sAr_self]
    refine lp_end ?_
    show m_nextOrder_L23 τ (nI a) (nI b) = _
    unfold m_nextOrder_L23
    rw [if_pos (nI_le (by omega) (by omega))]
  | succ f ih =>
    intro p a b τ hp hab hb ha
    by_cases q : b ≤ a
    · refine ⟨cA τ 61, ?_, by rw [rvn, if_pos q]; exact hp⟩
      rw [sAr_self]
      refine lp_end ?_
      show m_nextOrder_L23 τ (nI a) (nI b) = _
      unfold m_nextOrder_L23
      rw [if_pos (nI_le q (by omega))]
    · have hsw := hp.swap (a := a) (b := b) (by omega) hb
      obtain ⟨g, g1, g2⟩ := ih ((p.set a (p.getD b 0)).set b (p.getD a 0)) (a + 1) (b - 1) (sAr τ 61 (upd (upd (cA τ 61) a (cA τ 61 b)) b (cA τ 61 a))) (by rw [cA_sAr_at]; exact hsw) (by omega) (by omega) (by omega)
      rw [sAr_sAr] at g1
      refine ⟨g, ?_, by rw [rvn, if_neg q]; exact g2⟩
      have hst : m_nextOrder_L23 τ (nI a) (nI b) = some (Sum.inl (sAr τ 61 (upd (upd (cA τ 61) a (cA τ 61 b)) b (cA τ 61 a)), nI (a + 1), nI (b - 1))) := by
        unfold m_nextOrder_L23
        rw [if_neg (nI_ge (by omega) (by omega)), rdA_nI (by omega) (by decide), B1_some, rdA_nI (by omega) (by decide), B1_some, wrA_nI (by omega) (by decide), B1_some, wrA_nI (by omega) (by decide), B1_some, sA2, nI_1, ← Int32.sub_eq_add_neg]
        have hb1 : nI b - 1 = nI (b - 1) := by
          have := pd_s (b - 1)
          rw [show b - 1 + 1 = b by omega] at this
          exact this
        rw [hb1]
      unfold lq3 at g1 ⊢
      rw [lp_go hst]
      exact g1
theorem m2_is (m : Nat) : nI (m + 1) - 2 = nI m - 1 := by
  have : nI (m + 1) - 2 = nI (m + 1) - 1 - 1 := by
    rw [Int32.sub_sub]
    rfl
  rw [this, pd_s]
theorem next_is {m : Nat} {p : List Nat} (hm : m ≤ 6) (hp : PA (cA τ 61) m p) : (nxtP m p = none → m_nextOrder τ (nI m) = some (0, τ)) ∧ ∀ q, nxtP m p = some q → ∃ g, m_nextOrder τ (nI m) = some (1, sAr τ 61 g) ∧ PA g m q := by
  cases m with
  | zero =>
    have h0 : m_nextOrder τ (nI 0) = some (0, τ) := by
      have h1 : lq1 (m_nextOrder_L1 τ) (nI 0 - 2) = some (nI 0 - 2) := by
        refine lp_end ?_
        unfold m_nextOrder_L1
        rw [if_pos (by decide)]
      unfold m_nextOrder
      rw [h1, B1_some, if_neg (by decide)]
    refine ⟨fun _ => h0, fun q hq => ?_⟩
    unfold nxtP at hq
    have : fdn p (0 - 1) = none := rfl
    rw [this] at hq
    cases hq
  | succ m =>
    have h1 := ord_1 (τ := τ) (by omega) hp hm
    cases hf : fdn p m with
    | none =>
      rw [hf] at h1
      have hn : nxtP (m + 1) p = none := by
        unfold nxtP
        rw [show m + 1 - 1 = m from rfl, hf]
      refine ⟨fun _ => ?_, fun q hq => by rw [hn] at hq; cases hq⟩
      unfold m_nextOrder
      rw [m2_is, h1, B1_some, if_neg (by decide)]
    | some i =>
      rw [hf] at h1
      have hi := fdn_lt hf
      obtain ⟨h8, h9⟩ := ord_8 (τ := τ) (i := i) (by omega) hp (by omega)
      have hj := fjn_le (p := p) (i := i) m
      have hn : nxtP (m + 1) p = some (rvn 6 ((p.set i (p.getD (fjn p i m) 0)).set (fjn p i m) (p.getD i 0)) (i + 1) m) := by
        unfold nxtP
        rw [show m + 1 - 1 = m from rfl, hf]
      refine ⟨fun g => (by rw [hn] at g; cases g), fun q hq => ?_⟩
      rw [hn] at hq
      cases hq
      have hsw := hp.swap (a := i) (b := fjn p i m) (by omega) (by omega)
      obtain ⟨g, g1, g2⟩ := ord_23 hm 6 _ (i + 1) m (sAr τ 61 (upd (upd (cA τ 61) i (cA τ 61 (fjn p i m))) (fjn p i m) (cA τ 61 i))) (by rw [cA_sAr_at]; exact hsw) (by omega) (by omega) (by omega)
      rw [sAr_sAr] at g1
      refine ⟨g, ?_, g2⟩
      unfold m_nextOrder
      dsimp only at h1
      rw [m2_is, h1, B1_some, if_pos (nI_pos' (by omega)), pd_s, h8, B1_some, rdA_nI (by omega) (by decide), B1_some, rdA_nI (by omega) (by decide), B1_some, wrA_nI (by omega) (by decide), B1_some, wrA_nI (by omega) (by decide), B1_some, sA2, nI_1, g1, B1_some]
end Look3
