/-! plain law: look, the reference goes through all orders -/
section Look5
variable {σ σ' σ0 τ τ' τ0 : St} {rr : Nat}
def BsN (τ : St) (m : Nat) (b : Ls) : Prop := (b = none ∧ cI τ 62 = -9) ∨ ∃ v o, b = some (v, o) ∧ v < 2 ^ 31 ∧ o.length = m ∧ cI τ 62 = nI v ∧ ∀ j, j < m → cA τ 59 j = nI (o.getD j 0)
theorem st_59 {m : Nat} {M p : List Nat} (hm : m ≤ 6) (hp : PA (cA τ 61) m p) (hpm : ∀ j, j < m → p.getD j 0 < m) (h60 : ∀ j, j < m → cA τ 60 j = nI (M.getD j 0)) {step : St → Int32 → Option ((St × Int32) ⊕ St)} (hst : ∀ s x, step s x = if nI m ≤ x then some (Sum.inr s) else B1 (rdA 6 s 61 x) fun v79 => B1 (rdA 6 s 60 v79) fun v81 => B1 (wrA 6 s 59 x v81) fun s' => some (Sum.inl (s', x + 1))) : ∃ f, lq2 step τ 0 = some (sAr τ 59 f) ∧ ∀ j, j < m → f j = nI ((p.map fun i => M.getD i 0).getD j 0) := by
  obtain ⟨h1, h2, h3⟩ := hp
  have key : ∃ e, lq2 step τ 0 = some e ∧ ∃ f, e = sAr τ 59 f ∧ ∀ j, j < m → f j = nI ((p.map fun i => M.getD i 0).getD j 0) := by
    unfold lq2
    refine lp_forI m (fun i (q : St × Int32) => i ≤ m ∧ q.2 = nI i ∧ ∃ f, q.1 = sAr τ 59 f ∧ ∀ j, j < i → f j = nI ((p.map fun i => M.getD i 0).getD j 0)) _ ?_ (i := 0) ⟨by omega, nI_0.symm, _, (sAr_self τ 59).symm, fun j hj => absurd hj (Nat.not_lt_zero j)⟩
    rintro i ⟨s, z⟩ ⟨hi, hz, f, hs, hf⟩
    dsimp only at hz hs
    subst hz hs
    by_cases h6 : i = m
    · subst h6
      exact Or.inr ⟨_, by show step _ (nI i) = _; rw [hst, if_pos (Int32.le_refl _)], f, rfl, hf⟩
    · have hi2 : i < m := by omega
      have hpj := hpm i hi2
      have hv : (p.map fun i => M.getD i 0).getD i 0 = M.getD (p.getD i 0) 0 := by
        rw [List.getD_eq_getElem?_getD, List.getElem?_map, List.getElem?_eq_getElem (by omega)]
        show M.getD p[i] 0 = _
        congr 1
        rw [List.getD_eq_getElem?_getD, List.getElem?_eq_getElem (by omega)]
        rfl
      refine Or.inl ⟨hi2, (sAr τ 59 (upd f i (nI (M.getD (p.getD i 0) 0))), nI i + 1), ?_, by omega, nI_1 i, _, rfl, fun j hj => ?_⟩
      · show step _ (nI i) = _
        rw [hst, if_neg (nI_ge hi2 (by omega)), rdA_nI (by omega) (by decide), B1_some, cA_sAr_ne _ (by decide), h3 i hi2, rdA_nI (by omega) (by decide), B1_some, cA_sAr_ne _ (by decide), h60 _ hpj, wrA_nI (by omega) (by decide), B1_some, sA_sAr]
      · by_cases q : j = i
        · rw [q, upd_at, hv]
        · rw [upd_ne _ q]; exact hf j (by omega)
  obtain ⟨e, k1, f, rfl, k2⟩ := key
  exact ⟨f, k1, k2⟩
theorem chkP_hd {m : Nat} {p : List Nat} {t : List (List Nat)} (h : chkP m (p :: t) = true) : p.length = m ∧ (∀ j, j < m → p.getD j 0 < m) ∧ ((t = [] ∧ nxtP m p = none) ∨ ∃ q t', t = q :: t' ∧ nxtP m p = some q ∧ chkP m (q :: t') = true) := by
  have hb : ∀ {p : List Nat}, p.length = m → p.all (fun x => decide (x < m)) = true → ∀ j, j < m → p.getD j 0 < m := fun {p} h1 h2 j hj => by
    rw [List.getD_eq_getElem?_getD, List.getElem?_eq_getElem (by omega)]
    exact of_decide_eq_true (List.all_eq_true.mp h2 _ (List.getElem_mem _))
  cases t with
  | nil =>
    unfold chkP at h
    simp only [Bool.and_eq_true, decide_eq_true_eq] at h
    exact ⟨h.1.2, hb h.1.2 h.2, Or.inl ⟨rfl, h.1.1⟩⟩
  | cons q t =>
    unfold chkP at h
    rw [Bool.and_eq_true, Bool.and_eq_true, Bool.and_eq_true] at h
    exact ⟨of_decide_eq_true h.1.1.2, hb (of_decide_eq_true h.1.1.2) h.1.2, Or.inr ⟨q, t, rfl, of_decide_eq_true h.1.1.1, h.2⟩⟩
theorem step_M (h : R σ0 τ0) {now z m : Nat} {W : Nat → Nat} (hm : m ≤ 6) (hnow : now ≤ 99999) (m5 : cI τ0 5 = nI now) (hrr : rr < 6) (hrow : ∀ y, y < 8 → cA τ0 7 (40 * rr + y) = nI (W y) ∧ W y ≤ 100) (hz : z < 8) {M p : List Nat} (hMl : M.length = m) (hMm : ∀ y, y ∈ M → y < 8 ∧ co τ0 z now y ≠ none) {best : Ls} (hN : ScN τ0 τ) (hp : PA (cA τ 61) m p) (hpm : ∀ j, j < m → p.getD j 0 < m) (h60 : ∀ j, j < m → cA τ 60 j = nI (M.getD j 0)) (hB : BsN τ m best) :
    ∃ τ2, m_look_L52 (nI z) (nI rr) (nI m) τ 1 = (B2 (m_nextOrder τ2 (nI m)) fun v96 σ97 => some (Sum.inl (σ97, v96))) ∧ ScN τ0 τ2 ∧ PA (cA τ2 61) m p ∧ (∀ j, j < m → cA τ2 60 j = nI (M.getD j 0)) ∧ BsN τ2 m (upL best (lc τ0 W now 0 z now (p.map fun i => M.getD i 0), p.map fun i => M.getD i 0)) := by
  obtain ⟨⟨f, c1⟩, c2⟩ := cost_M (τ := τ) h hm hnow m5 hrr hrow hz hMl hMm hN hp hpm h60
  have hlen : (p.map fun i => M.getD i 0).length = m := by rw [List.length_map, hp.1]
  generalize hc : lc τ0 W now 0 z now (p.map fun i => M.getD i 0) = c at *
  have hcb : c < 2 ^ 31 := by
    have : 16800000 * m ≤ 16800000 * 6 := Nat.mul_le_mul_left _ hm
    omega
  have e5 : cI τ 5 = nI now := (hN.1 5 (by decide)).trans m5
  have e62 : cI (sAr τ 15 f) 62 = cI τ 62 := rfl
  have hN1 : ScN τ0 (sI (sAr τ 15 f) 62 (nI c)) := (hN.wAr (by decide)).wI (by decide)
  have hp1 : PA (cA (sI (sAr τ 15 f) 62 (nI c)) 61) m p := hp
  obtain ⟨g, g1, g2⟩ := st_59 (τ := sI (sAr τ 15 f) 62 (nI c)) (M := M) (step := m_look_L75 (nI m)) hm hp1 hpm h60 (fun s x => rfl)
  obtain ⟨g', g1', g2'⟩ := st_59 (τ := sI (sAr τ 15 f) 62 (nI c)) (M := M) (step := m_look_L85 (nI m)) hm hp1 hpm h60 (fun s x => rfl)
  have tk : ∀ g : Nat → Int32, (∀ j, j < m → g j = nI ((p.map fun i => M.getD i 0).getD j 0)) → BsN (sAr (sI (sAr τ 15 f) 62 (nI c)) 59 g) m (some (c, p.map fun i => M.getD i 0)) := fun g hg => Or.inr ⟨c, _, rfl, hcb, hlen, rfl, fun j hj => by rw [cA_sAr_at]; exact hg j hj⟩
  unfold m_look_L52
  rw [if_neg k10, e5, c1, B2_some, e62]
  rcases hB with ⟨rfl, e⟩ | ⟨v, o, rfl, b1, b2, b3, b4⟩
  · rw [if_pos (by rw [e]; exact k9l), g1, B1_some, B1_some]
    exact ⟨_, rfl, hN1.w59, hp, h60, tk g g2⟩
  · rw [if_neg (by rw [b3]; exact nI_pos b1), b3]
    by_cases q : v ≤ c
    · rw [if_pos (nI_le q hcb), B1_some]
      refine ⟨_, rfl, hN.wAr (by decide), hp, h60, ?_⟩
      show BsN _ m (if v ≤ c then some (v, o) else some (c, p.map fun i => M.getD i 0))
      rw [if_pos q]
      exact Or.inr ⟨v, o, rfl, b1, b2, b3, b4⟩
    · rw [if_neg (nI_ge (by omega) b1), g1', B1_some, B1_some]
      refine ⟨_, rfl, hN1.w59, hp, h60, ?_⟩
      show BsN _ m (if v ≤ c then some (v, o) else some (c, p.map fun i => M.getD i 0))
      rw [if_neg q]
      exact tk g' g2'
theorem BsN.w61 {m : Nat} {b : Ls} (h : BsN τ m b) {f : Nat → Int32} : BsN (sAr τ 61 f) m b := h
theorem loop_M (h : R σ0 τ0) {now z m : Nat} {W : Nat → Nat} (hm : m ≤ 6) (hnow : now ≤ 99999) (m5 : cI τ0 5 = nI now) (hrr : rr < 6) (hrow : ∀ y, y < 8 → cA τ0 7 (40 * rr + y) = nI (W y) ∧ W y ≤ 100) (hz : z < 8) {M : List Nat} (hMl : M.length = m) (hMm : ∀ y, y ∈ M → y < 8 ∧ co τ0 z now y ≠ none) :
    ∀ (L : List (List Nat)) (p : List Nat) (best : Ls) (τ : St), chkP m (p :: L) = true → ScN τ0 τ → PA (cA τ 61) m p → (∀ j, j < m → cA τ 60 j = nI (M.getD j 0)) → BsN τ m best →
    ∃ τ', lq2 (m_look_L52 (nI z) (nI rr) (nI m)) τ 1 = some τ' ∧ ScN τ0 τ' ∧ BsN τ' m ((p :: L).foldl (fun b o => upL b (lc τ0 W now 0 z now (o.map fun i => M.getD i 0), o.map fun i => M.getD i 0)) best) := by
  intro L
  induction L with
  | nil =>
    intro p best τ hch hN hp h60 hB
    obtain ⟨-, hpm, hnx⟩ := chkP_hd hch
    obtain ⟨τ2, s1, s2, s3, s4, s5⟩ := step_M h hm hnow m5 hrr hrow hz hMl hMm hN hp hpm h60 hB
    rcases hnx with ⟨-, hn⟩ | ⟨q, t, g, -⟩
    · rw [(next_is hm s3).1 hn, B2_some] at s1
      refine ⟨τ2, ?_, s2, s5⟩
      unfold lq2
      rw [lp_go s1]
      refine lp_end ?_
      show m_look_L52 _ _ _ τ2 0 = _
      unfold m_look_L52
      rw [if_pos k00]
    · cases g
  | cons q L ih =>
    intro p best τ hch hN hp h60 hB
    obtain ⟨-, hpm, hnx⟩ := chkP_hd hch
    obtain ⟨τ2, s1, s2, s3, s4, s5⟩ := step_M h hm hnow m5 hrr hrow hz hMl hMm hN hp hpm h60 hB
    rcases hnx with ⟨g, -⟩ | ⟨q', t, g, hn, hch2⟩
    · cases g
    · cases g
      obtain ⟨g, g1, g2⟩ := (next_is hm s3).2 q hn
      rw [g1, B2_some] at s1
      obtain ⟨τ', r1, r2, r3⟩ := ih q _ (sAr τ2 61 g) hch2 (s2.wAr (by decide)) (by rw [cA_sAr_at]; exact g2) (fun j hj => by rw [cA_sAr_ne _ (by decide)]; exact s4 j hj) s5.w61
      refine ⟨τ', ?_, r2, r3⟩
      unfold lq2 at r1 ⊢
      rw [lp_go s1]
      exact r1
end Look5
