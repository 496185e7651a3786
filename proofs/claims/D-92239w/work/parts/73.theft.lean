/-! plain law: the last entry of a kind; theft -/
def lst (P : Nat → Bool) : Nat → Option Nat
  | 0 => none
  | m + 1 => if P m = true then some m else lst P m
theorem lst_in {P : Nat → Bool} : ∀ {m e : Nat}, lst P m = some e → e < m ∧ P e = true ∧ ∀ k, e < k → k < m → P k = false
  | 0, _, h => by cases h
  | m + 1, e, h => by
    rw [lst] at h
    by_cases q : P m = true
    · rw [if_pos q] at h
      cases h
      exact ⟨by omega, q, fun k h1 h2 => by omega⟩
    · rw [if_neg q] at h
      obtain ⟨h1, h2, h3⟩ := lst_in h
      refine ⟨by omega, h2, fun k h4 h5 => ?_⟩
      by_cases g : k = m
      · subst g; simpa using q
      · exact h3 k h4 (by omega)
theorem lst_no {P : Nat → Bool} : ∀ {m : Nat}, lst P m = none → ∀ k, k < m → P k = false
  | 0, _, k, hk => by omega
  | m + 1, h, k, hk => by
    rw [lst] at h
    by_cases q : P m = true
    · rw [if_pos q] at h; cases h
    · rw [if_neg q] at h
      by_cases g : k = m
      · subst g; simpa using q
      · exact lst_no h k (by omega)
theorem lst_ex {P : Nat → Bool} {m e : Nat} (he : e < m) (h : P e = true) : ∃ e', lst P m = some e' ∧ e ≤ e' := by
  cases hl : lst P m with
  | none => rw [lst_no hl e he] at h; cases h
  | some e' =>
    refine ⟨e', rfl, ?_⟩
    obtain ⟨h1, h2, h3⟩ := lst_in hl
    exact Nat.le_of_not_lt fun g => by
      rw [h3 e g he] at h
      cases h
theorem lst_eq {P : Nat → Bool} {m e : Nat} (he : e < m) (h : P e = true) (hn : ∀ k, e < k → k < m → P k = false) : lst P m = some e := by
  obtain ⟨e', h1, h2⟩ := lst_ex he h
  obtain ⟨h3, h4, h5⟩ := lst_in h1
  by_cases g : e' = e
  · rw [h1, g]
  · rw [hn e' (by omega) h3] at h4
    cases h4
section Theft
variable {σ τ : St}
theorem Sim.l1 {α γ δ : Type} {x : Option α} {a : α} {f : α → Option γ} {y : Option δ} {Q : γ → δ → Prop} (h : x = some a) (k : Sim (f a) y Q) : Sim (B1 x f) y Q := by rw [h]; exact k
theorem Sim.r1 {α γ δ : Type} {x : Option α} {a : α} {f : α → Option δ} {y : Option γ} {Q : γ → δ → Prop} (h : x = some a) (k : Sim y (f a) Q) : Sim y (B1 x f) Q := by rw [h]; exact k
def pq (τ : St) (t s o : Int32) (e : Nat) : Bool := decide (cA τ 35 e = t ∧ (cA τ 36 e = s ∨ cA τ 36 e = o))
theorem pd_s (m : Nat) : nI (m + 1) - 1 = nI m := nI_pred m
theorem ahead_is (h : Req σ τ) {b : Nat} (hb : b ≤ 60) (t s o : Int32) : c_entryAhead σ t (nI b) s o = some (e9 (lst (pq τ t s o) b)) := by
  have key : ∃ r, lq1 (c_entryAhead_L1 σ t s o) (nI b - 1) = some r ∧ ((r < 0 ∧ lst (pq τ t s o) b = none) ∨ ∃ e, e < b ∧ r = nI e ∧ lst (pq τ t s o) b = some e) := by
    unfold lq1
    refine lp_forI b (fun i (x : Int32) => ∃ m, i + m = b ∧ x = nI m - 1 ∧ lst (pq τ t s o) m = lst (pq τ t s o) b) _ ?_ (i := 0) ⟨b, by omega, rfl, rfl⟩
    rintro i x ⟨m, him, rfl, hl⟩
    cases m with
    | zero =>
      refine Or.inr ⟨nI 0 - 1, ?_, Or.inl ⟨by decide, by rw [← hl]; rfl⟩⟩
      show c_entryAhead_L1 σ t s o (nI 0 - 1) = _
      unfold c_entryAhead_L1
      rw [if_pos (by decide)]
    | succ m =>
      have hm60 : m < 60 := by omega
      rw [pd_s]
      have hst : c_entryAhead_L1 σ t s o (nI m) = (if pq τ t s o m = true then some (Sum.inr (nI m)) else some (Sum.inl (nI m - 1))) := by
        unfold c_entryAhead_L1
        have e1 : nI m + (-1) = nI m - 1 := by rw [Int32.sub_eq_add_neg]
        rw [if_neg (nI_pos (by omega)), rdA_nI hm60 (by decide), B1_some, rdA_nI hm60 (by decide), B1_some, B1_some, h.A 23 35 (by decide), h.A 24 36 (by decide), e1]
        unfold pq
        by_cases q1 : cA τ 35 m = t
        · rw [if_pos q1]
          by_cases q2 : cA τ 36 m = s
          · rw [if_pos q2, if_pos (decide_eq_true ⟨q1, Or.inl q2⟩)]
          · rw [if_neg q2]
            by_cases q3 : cA τ 36 m = o
            · rw [if_pos q3, if_pos (decide_eq_true ⟨q1, Or.inr q3⟩)]
            · rw [if_neg q3, if_neg (by simp [q2, q3])]
        · rw [if_neg q1, if_neg (by simp [q1])]
      rw [lst] at hl
      by_cases q : pq τ t s o m = true
      · rw [if_pos q] at hl hst
        exact Or.inr ⟨nI m, hst, Or.inr ⟨m, by omega, rfl, hl.symm⟩⟩
      · rw [if_neg q] at hl hst
        exact Or.inl ⟨by omega, nI m - 1, hst, m, by omega, rfl, hl⟩
  obtain ⟨r, k1, k2⟩ := key
  unfold c_entryAhead
  rw [k1, B1_some]
  rcases k2 with ⟨g1, g2⟩ | ⟨e, g1, rfl, g2⟩
  · rw [if_neg (fun g => by rw [i32_le] at g; rw [i32_lt] at g1; omega), B1_some, g2]
    rfl
  · rw [if_pos (nI_pos' (by omega)), B1_some, g2]
    rfl
theorem sI_sI (σ : St) (k : Nat) (v v' : Int32) : sI (sI σ k v) k v' = sI σ k v' := by
  unfold sI
  have e : va_up (va_up σ.1 k v) k v' = va_up σ.1 k v' := by
    funext j
    unfold va_up
    by_cases h : j = k <;> simp [h]
  simp only [e]
/-- the reference's finding -/
def tf (τ : St) (f g : Int32) : St := sI (sI τ 48 f) 49 g
theorem tf_49 (τ : St) (f g x : Int32) : sI (tf τ f g) 49 x = tf τ f x := sI_sI _ _ _ _
theorem tf_48 (τ : St) (f g x : Int32) : sI (tf τ f g) 48 x = tf τ x g := by
  unfold tf
  rw [sI_comm _ (show 49 ≠ 48 by decide), sI_sI]
theorem tf_to (τ : St) (f g : Int32) : cI (tf τ f g) 49 = g := rfl
theorem tf_from (τ : St) (f g : Int32) : cI (tf τ f g) 48 = f := rfl
theorem findTheft_is {N : Nat} (hN : N ≤ 60) (h34 : cI τ 34 = nI N) (t : Int32) : m_findTheft τ t = some (b01 (lst (pq τ t 5 5) N).isSome, tf τ (e9 ((lst (pq τ t 5 5) N).bind fun e => lst (pq τ t 3 4) e)) (e9 (lst (pq τ t 5 5) N))) := by
  have k1 : ∃ r, lq2 (m_findTheft_L1 t) (tf τ (-9) (-9)) 0 = some r ∧ r = tf τ (-9) (e9 (lst (pq τ t 5 5) N)) := by
    unfold lq2
    refine lp_forI N (fun k (q : St × Int32) => k ≤ N ∧ q.2 = nI k ∧ q.1 = tf τ (-9) (e9 (lst (pq τ t 5 5) k))) _ ?_ (i := 0) ⟨by omega, nI_0.symm, rfl⟩
    rintro k ⟨s, x⟩ ⟨hk, hx, hs⟩
    dsimp only at hx hs
    subst hx hs
    by_cases hkN : k = N
    · subst hkN
      refine Or.inr ⟨_, ?_, rfl⟩
      show m_findTheft_L1 t (tf τ (-9) (e9 (lst (pq τ t 5 5) k))) (nI k) = _
      unfold m_findTheft_L1
      rw [show cI (tf τ (-9) (e9 (lst (pq τ t 5 5) k))) 34 = nI k from h34, if_pos (Int32.le_refl _)]
    · have hk2 : k < N := by omega
      refine Or.inl ⟨hk2, (tf τ (-9) (e9 (lst (pq τ t 5 5) (k + 1))), nI k + 1), ?_, by omega, nI_1 k, rfl⟩
      show m_findTheft_L1 t (tf τ (-9) (e9 (lst (pq τ t 5 5) k))) (nI k) = _
      unfold m_findTheft_L1
      have hk60 : k < 60 := by omega
      simp only [show cI (tf τ (-9) (e9 (lst (pq τ t 5 5) k))) 34 = nI N from h34, if_neg (nI_ge hk2 (show N < 2 ^ 31 by omega)), rdA_nI hk60 l60, B1_some, tf_to]
      rw [lst]
      show (B1 (if cA τ 35 k = t then (if cA τ 36 k = 5 then some (nI k) else some (e9 (lst (pq τ t 5 5) k))) else some (e9 (lst (pq τ t 5 5) k))) fun x8 => some (Sum.inl (sI (tf τ (-9) (e9 (lst (pq τ t 5 5) k))) 49 x8, nI k + 1))) = _
      by_cases q1 : cA τ 35 k = t
      · rw [if_pos q1]
        by_cases q2 : cA τ 36 k = 5
        · rw [if_pos q2, B1_some, tf_49, if_pos (show pq τ t 5 5 k = true from decide_eq_true ⟨q1, Or.inl q2⟩)]
          rfl
        · rw [if_neg q2, B1_some, tf_49, if_neg (show ¬ pq τ t 5 5 k = true by unfold pq; simp [q2])]
      · rw [if_neg q1, B1_some, tf_49, if_neg (show ¬ pq τ t 5 5 k = true by unfold pq; simp [q1])]
  obtain ⟨r, l1, rfl⟩ := k1
  unfold m_findTheft
  rw [show lq2 (m_findTheft_L1 t) (sI (sI τ 48 (-9)) 49 (-9)) 0 = _ from l1, B1_some]
  cases hl : lst (pq τ t 5 5) N with
  | none =>
    have l2 : lq2 (m_findTheft_L11 t) (tf τ (-9) (e9 none)) 0 = some (tf τ (-9) (e9 none)) := by
      refine lp_end ?_
      show m_findTheft_L11 t (tf τ (-9) (e9 none)) 0 = _
      unfold m_findTheft_L11
      rw [tf_to, if_pos (show e9 none ≤ 0 by decide)]
    rw [l2, B1_some, tf_to, if_pos (show e9 none < 0 from k9l), B1_some, bZ_0, B1_some]
    rfl
  | some e =>
    obtain ⟨he, -, -⟩ := lst_in hl
    have l2 : ∃ r, lq2 (m_findTheft_L11 t) (tf τ (-9) (nI e)) 0 = some r ∧ r = tf τ (e9 (lst (pq τ t 3 4) e)) (nI e) := by
      unfold lq2
      refine lp_forI e (fun k (q : St × Int32) => k ≤ e ∧ q.2 = nI k ∧ q.1 = tf τ (e9 (lst (pq τ t 3 4) k)) (nI e)) _ ?_ (i := 0) ⟨by omega, nI_0.symm, rfl⟩
      rintro k ⟨s, x⟩ ⟨hk, hx, hs⟩
      dsimp only at hx hs
      subst hx hs
      by_cases hke : k = e
      · subst hke
        refine Or.inr ⟨_, ?_, rfl⟩
        show m_findTheft_L11 t (tf τ (e9 (lst (pq τ t 3 4) k)) (nI k)) (nI k) = _
        unfold m_findTheft_L11
        rw [tf_to, if_pos (Int32.le_refl _)]
      · have hk2 : k < e := by omega
        have hk60 : k < 60 := by omega
        refine Or.inl ⟨hk2, (tf τ (e9 (lst (pq τ t 3 4) (k + 1))) (nI e), nI k + 1), ?_, by omega, nI_1 k, rfl⟩
        show m_findTheft_L11 t (tf τ (e9 (lst (pq τ t 3 4) k)) (nI e)) (nI k) = _
        unfold m_findTheft_L11
        simp only [tf_to, if_neg (nI_ge hk2 (show e < 2 ^ 31 by omega)), rdA_nI hk60 l60, B1_some, tf_from]
        rw [lst]
        show (B1 (if cA τ 35 k = t then (if cA τ 36 k = 3 then some (nI k) else (if cA τ 36 k = 4 then some (nI k) else some (e9 (lst (pq τ t 3 4) k)))) else some (e9 (lst (pq τ t 3 4) k))) fun x8 => some (Sum.inl (sI (tf τ (e9 (lst (pq τ t 3 4) k)) (nI e)) 48 x8, nI k + 1))) = _
        by_cases q1 : cA τ 35 k = t
        · rw [if_pos q1]
          by_cases q2 : cA τ 36 k = 3
          · rw [if_pos q2, B1_some, tf_48, if_pos (show pq τ t 3 4 k = true from decide_eq_true ⟨q1, Or.inl q2⟩)]
            rfl
          · rw [if_neg q2]
            by_cases q3 : cA τ 36 k = 4
            · rw [if_pos q3, B1_some, tf_48, if_pos (show pq τ t 3 4 k = true from decide_eq_true ⟨q1, Or.inr q3⟩)]
              rfl
            · rw [if_neg q3, B1_some, tf_48, if_neg (show ¬ pq τ t 3 4 k = true by unfold pq; simp [q2, q3])]
        · rw [if_neg q1, B1_some, tf_48, if_neg (show ¬ pq τ t 3 4 k = true by unfold pq; simp [q1])]
    obtain ⟨r, l3, rfl⟩ := l2
    have he9 : e9 (some e) = nI e := rfl
    rw [he9, l3, B1_some, tf_to, if_neg (nI_pos (by omega)), B1_some, bZ_1, B1_some]
    rfl
theorem R.tf (h : R σ τ) (f g : Int32) : R σ (tf τ f g) := h.scr ScC.rfl ((ScM.rfl.wI (by decide)).wI (by decide))
/-- what a seal's breach rests on -/
theorem theft_b {w n N q : Nat} (hw : Rw w n N q σ τ) {t e : Nat} (h : lst (pq τ (nI t) 5 5) N = some e) : e < N ∧ ∃ b, lst (pq τ (nI t) 3 4) e = some b ∧ b < e := by
  obtain ⟨h1, h2, -⟩ := lst_in h
  unfold pq at h2
  obtain ⟨h3, h4⟩ := of_decide_eq_true h2
  have h5 : cA τ 36 e = nI 5 := h4.elim id id
  obtain ⟨e', g1, g2, g3⟩ := hw.2.2.2.2.2.2.1.2.2.1 e h1 h5
  obtain ⟨b, k1, -⟩ := lst_ex (P := pq τ (nI t) 3 4) g1 (decide_eq_true ⟨g2.trans h3, g3⟩)
  exact ⟨h1, b, k1, (lst_in k1).1⟩
theorem s_theft (h : R σ τ) (a : Int32) : Sim (c_theft σ a) (m_theft τ a) Rq := by
  obtain ⟨w, n, N, q, hw⟩ := h.rw
  have hN := hw.1.2.2.1
  unfold c_theft m_theft
  rcases hw.tcase a with ⟨t, ht, rfl, e3, e4, hT⟩ | ⟨e3, e4⟩
  · rw [e3, e4, B1_some, B1_some, if_neg k10, if_neg k10, hw.c22, ahead_is h.eq hN, B1_some, findTheft_is hN hw.m34, B2_some]
    cases hl : lst (pq τ (nI t) 5 5) N with
    | none =>
      rw [show (none : Option Nat).isSome = false from rfl, b01_f, if_pos k00, B2_some, if_pos (show e9 none = -9 from rfl)]
      exact (h.tf _ _).same _
    | some e =>
      obtain ⟨he, b, hb, hbe⟩ := theft_b hw hl
      have hE : e9 (some e) = nI e := rfl
      have hBn : ((some e).bind fun e => lst (pq τ (nI t) 3 4) e) = some b := hb
      have hB : e9 (some b) = nI b := rfl
      have he60 : e < 60 := by omega
      have hb60 : b < 60 := by omega
      rw [show (some e).isSome = true from rfl, b01_t, if_neg k10, hE, if_neg (nI_n9 (by omega)), ahead_is h.eq (by omega), hb, hB, B1_some, hBn, hB, tf_from, tf_to]
      simp only [rdA_nI he60 l60, rdA_nI hb60 l60, B1_some]
      rw [h.eq.A 25 37 (by decide)]
      exact ⟨_, _, rfl, rfl, rfl, (h.tf _ _).say rfl⟩
  · rw [e3, e4, B1_some, B1_some, if_pos k00, if_pos k00]
    exact h.same _
/-! go -/
theorem eM_none : eM none = 100000000 := rfl
theorem eM_ne {t : Nat} (h : t < 100000000) : ¬ eM (some t) = 100000000 := fun g => by
  have h1 : nI t = nI 100000000 := g
  have := (nI_eq (a := t) (b := 100000000) (by omega) (by decide)).mp h1
  omega
theorem le_9 {t : Nat} (h : t < 2 ^ 31) (g : ¬ (99999 : Int32) < nI t) : t ≤ 99999 := by
  have h1 : nI t ≤ nI 99999 := Int32.not_lt.mp g
  exact (nI_leI (a := t) (b := 99999) h (by decide)).mp h1
theorem nI_2 : nI 2 = 2 := rfl
theorem nI_3 : nI 3 = 3 := rfl
theorem s_go (h : R σ τ) (a b : Int32) : Sim (c_go σ a b) (m_go τ a b) Rq := by
  obtain ⟨w, n, N, q, hw⟩ := h.rw
  unfold c_go m_go
  rcases tractor_cases a with ⟨k, hk, rfl, e1, e2⟩ | ⟨e1, e2⟩
  · rw [e1, e2, B1_some, B1_some, if_neg k10, if_neg k10]
    rcases yard_cases b with ⟨y, hy, rfl, e3, e4⟩ | ⟨-, e3, e4⟩
    · obtain ⟨⟨y0, hy0, ey0⟩, hsi, hha⟩ := hw.2.2.2.2.2.2.2.1.1 k hk
      have c28 : cA σ 28 k = nI y0 := by rw [h.eq.A 28 29 (by decide)]; exact ey0
      rw [e3, e4, B1_some, B1_some, if_neg k10, if_neg k10]
      refine Sim.l1 (rdA_nI hk l6) (Sim.r1 (rdA_nI hk l6) ?_)
      rw [c28, ey0]
      by_cases hyy : y = y0
      · subst hyy
        rw [if_pos rfl, if_pos rfl]
        exact h.same _
      · rw [if_neg (fun g => hyy ((nI_eq (by omega) (by omega)).mp g)), if_neg (fun g => hyy ((nI_eq (by omega) (by omega)).mp g).symm)]
        obtain ⟨v, e5, e6⟩ := onWay_is h hk
        rw [e5, e6, B1_some, B1_some]
        cases v with
        | true =>
          rw [b01_t, if_neg k10, if_neg k10]
          exact h.same _
        | false =>
          have c11 : cI σ 11 = nI w := (h.eq.I 11 5 (by decide)).trans hw.m5
          obtain ⟨o, σ', τ', g1, g2, g3, g5, g6, g4⟩ := comesTo_both h hy0 (s := w) (by have := hw.1.1; omega) hy
          have m5' : cI τ' 5 = nI w := by rw [g6.1 5 (by decide)]; exact hw.m5
          have c11' : cI σ' 11 = nI w := (g3.eq.I 11 5 (by decide)).trans m5'
          rw [b01_f, if_pos k00, if_pos k00]
          refine Sim.l1 (rdA_nI hk l6) (Sim.r1 (rdA_nI hk l6) ?_)
          rw [c28, ey0, c11, hw.m5, g1, g2, B2_some, B2_some]
          cases o with
          | none =>
            rw [if_pos (show e9 none = -9 from rfl), if_pos eM_none]
            exact found_meets2 g3 (f := 1) (by decide) rfl
          | some t =>
            obtain ⟨t1, t2⟩ := g4 t rfl
            have hw9 := hw.1.1
            have n1 : ¬ e9 (some t) = -9 := nI_n9 (by omega)
            have n2 : ¬ eM (some t) = 100000000 := eM_ne (by omega)
            have et : e9 (some t) = nI t := rfl
            have et2 : eM (some t) = nI t := rfl
            obtain ⟨f3, p1, p2⟩ := force_is g3 (wh := 3) (by decide) (a2 := 0) (yd := 0) (fun g => absurd g (by decide)) (nI w / 1440) (nI w / 1440)
            obtain ⟨f2, p3, p4⟩ := force_is g3 (wh := 2) (by decide) (a2 := 0) (yd := 0) (fun g => absurd g (by decide)) (nI w / 1440) (nI w / 1440)
            rw [nI_3] at p1 p2
            rw [nI_2] at p3 p4
            rw [if_neg n1, if_neg n2, et, et2]
            unfold m_day
            simp only [rdA_nI hk l6, wrA_nI hk l6, B1_some, c11', m5', p1, p2, p3, p4, g3.eq.A 29 30 (by decide), g3.eq.A 31 32 (by decide)]
            -- what was driven before
            have hb : ∃ x, (B1 ((if nI w - cA τ' 30 k < f3 then some 0 else some 1) : Option Int32) fun x19 => (if x19 = 0 then some (cA τ' 32 k) else some 0)) = some x ∧ ((if nI w - cA τ' 30 k < f3 then some (cA τ' 32 k) else some 0) : Option Int32) = some x := by
              by_cases g : nI w - cA τ' 30 k < f3
              · simp only [if_pos g, B1_some, if_true]; exact ⟨_, rfl, rfl⟩
              · simp only [if_neg g, B1_some, if_neg k10]; exact ⟨_, rfl, rfl⟩
            obtain ⟨x, q1, q2⟩ := hb
            have q1' : ∀ {γ : Type} (f : Int32 → Option γ), (B1 ((if nI w - cA τ' 30 k < f3 then some 0 else some 1) : Option Int32) fun x19 => B1 ((if x19 = 0 then some (cA τ' 32 k) else some 0) : Option Int32) f) = f x := fun f => by
              by_cases g : nI w - cA τ' 30 k < f3
              · simp only [if_pos g, B1_some, if_true] at q1 ⊢
                rw [Option.some.inj q1]
              · simp only [if_neg g, B1_some, if_neg k10] at q1 ⊢
                rw [Option.some.inj q1]
            rw [q1', q2, B1_some]
            by_cases hlate : (99999 : Int32) < nI t
            · rw [if_pos hlate, if_pos hlate]
              exact g3.same _
            · have ht9 : t ≤ 99999 := le_9 (by omega) hlate
              have eas : x + nI t - nI w = x + (nI t - nI w) := by rw [Int32.sub_eq_add_neg, Int32.sub_eq_add_neg, Int32.add_assoc]
              rw [if_neg hlate, if_neg hlate, eas]
              by_cases hf : x + (nI t - nI w) ≤ f2
              · rw [if_pos hf, if_pos hf]
                have e32 : cA (sA σ' 31 k (x + (nI t - nI w))) 32 k = cA (sA τ' 32 k (x + (nI t - nI w))) 33 k := by
                  show cA σ' 32 k = cA τ' 33 k
                  rw [g3.eq.A 32 33 (by decide)]
                have e11 : cI (sA σ' 31 k (x + (nI t - nI w))) 11 = nI w := c11'
                rw [e32, e11]
                obtain ⟨w', n', N', q', hw'⟩ := g3.rw
                obtain ⟨p1, p2, p3, p4, p5, p6, p7, p8, p9, p10⟩ := hw'
                have hU : Up σ' (sA (sA (sA (sA σ' 31 k (x + (nI t - nI w))) 32 k (cA (sA τ' 32 k (x + (nI t - nI w))) 33 k + (nI t - nI w))) 28 k (nI y)) 29 k (nI t)) := (((Up.rfl.wA (by decide)).wA (by decide)).wA (by decide)).wA (by decide)
                exact ⟨_, _, rfl, rfl, rfl, w', n', N', q', p1, (((p2.wA (by decide) rfl).wA (by decide) rfl).wA (by decide) rfl).wA (by decide) rfl, ⟨p3.1.up (by decide) hU, p3.2.up (by decide) hU⟩, p4.up hU ((((Dn.rfl.wA (by decide)).wA (by decide)).wA (by decide)).wA (by decide)), p5, p6, p7, (p8.yard hy).since ⟨t, ht9, rfl⟩, p9, p10⟩
              · rw [if_neg hf, if_neg hf]
                exact g3.same _
    · rw [e3, e4, B1_some, B1_some, if_pos k00, if_pos k00]
      exact h.same _
  · rw [e1, e2, B1_some, B1_some, if_pos k00, if_pos k00]
    exact h.same _
end Theft
