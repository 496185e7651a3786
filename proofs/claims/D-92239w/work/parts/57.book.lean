/-! plain law: the book grows; trailers and tractors -/
section Book
variable {n N w : Nat} {tr so mi by_ yd lost sld lost' sld' : Nat → Int32}
theorem Bk.add (h : Bk n N w tr so mi by_ yd lost sld) (hn : n ≤ 12) {t0 s0 : Nat} {m0 b0 y0 : Int32} (ht : t0 < n) (hs : s0 < 6) (hm : isN m0 w) (h0 : s0 = 0 → ∃ y, y < 8 ∧ b0 = nI y ∧ y0 = nI y) (h1 : s0 = 1 → (∃ k, k < 6 ∧ b0 = nI k) ∧ ∃ y, y < 8 ∧ y0 = nI y) (h5 : s0 = 5 → sld t0 = 1)
    (hse : ∀ t, t ≠ t0 → sld' t = sld t) (hs0 : sld' t0 = 0 ∨ (sld' t0 = 1 ∧ (sld t0 = 1 ∨ s0 = 3 ∨ s0 = 4))) (hlo : ∀ t, t ≠ t0 → lost' t = lost t) (hl0 : lost' t0 = 0 ∨ (lost' t0 = 1 ∧ s0 = 2)) :
    Bk n (N + 1) w (upd tr N (nI t0)) (upd so N (nI s0)) (upd mi N m0) (upd by_ N b0) (upd yd N y0) lost' sld' := by
  obtain ⟨b1, b2, b3, b4, b5⟩ := h
  have hs1 : sld t0 = 1 → ∃ e, e < N ∧ tr e = nI t0 ∧ (so e = nI 3 ∨ so e = nI 4) := fun q => by
    rcases b4 t0 ht with g | ⟨-, g⟩
    · rw [q] at g
      exact absurd g (by decide)
    · exact g
  refine ⟨fun e he => ?_, fun t ht2 => ?_, fun e he h5e => ?_, fun t ht2 => ?_, fun t ht2 => ?_⟩
  · by_cases q : e = N
    · subst q
      rw [upd_at, upd_at, upd_at, upd_at, upd_at]
      exact ⟨⟨t0, ht, rfl⟩, hm, s0, hs, rfl, h0, h1⟩
    · rw [upd_ne _ q, upd_ne _ q, upd_ne _ q, upd_ne _ q, upd_ne _ q]
      exact b1 e (by omega)
  · obtain ⟨e, he, g1, g2, g3⟩ := b2 t ht2
    refine ⟨e, by omega, ?_, ?_, fun e' he' => ?_⟩
    · rw [upd_ne _ (by omega)]; exact g1
    · rw [upd_ne _ (by omega)]; exact g2
    · rw [upd_ne _ (by omega)]; exact g3 e' he'
  · by_cases q : e = N
    · subst q
      rw [upd_at] at h5e ⊢
      have hs5 : s0 = 5 := (nI_eq (by omega) (by decide)).mp h5e
      obtain ⟨e', he', g1, g2⟩ := hs1 (h5 hs5)
      refine ⟨e', he', ?_, ?_⟩
      · rw [upd_ne _ (by omega)]; exact g1
      · rw [upd_ne _ (by omega)]; exact g2
    · rw [upd_ne _ q] at h5e
      obtain ⟨e', he', g1, g2⟩ := b3 e (by omega) h5e
      refine ⟨e', he', ?_, ?_⟩
      · rw [upd_ne _ (by omega), upd_ne _ q]; exact g1
      · rw [upd_ne _ (by omega)]; exact g2
  · by_cases q : t = t0
    · subst q
      rcases hs0 with g | ⟨g, g2⟩
      · exact Or.inl g
      · refine Or.inr ⟨g, ?_⟩
        rcases g2 with g2 | g2
        · obtain ⟨e', he', k1, k2⟩ := hs1 g2
          exact ⟨e', by omega, by rw [upd_ne _ (by omega)]; exact k1, by rw [upd_ne _ (by omega)]; exact k2⟩
        · refine ⟨N, by omega, upd_at _ _ _, ?_⟩
          rw [upd_at]
          rcases g2 with g2 | g2
          · exact Or.inl (by rw [g2])
          · exact Or.inr (by rw [g2])
    · rw [hse t q]
      rcases b4 t ht2 with g | ⟨g, e', he', k1, k2⟩
      · exact Or.inl g
      · exact Or.inr ⟨g, e', by omega, by rw [upd_ne _ (by omega)]; exact k1, by rw [upd_ne _ (by omega)]; exact k2⟩
  · by_cases q : t = t0
    · subst q
      rcases hl0 with g | ⟨g, g2⟩
      · exact Or.inl g
      · exact Or.inr ⟨g, N, by omega, upd_at _ _ _, by rw [upd_at, g2], fun e' h1 h2 => by omega⟩
    · rw [hlo t q]
      rcases b5 t ht2 with g | ⟨g, e', he', k1, k2, k3⟩
      · exact Or.inl g
      · refine Or.inr ⟨g, e', by omega, by rw [upd_ne _ (by omega)]; exact k1, by rw [upd_ne _ (by omega)]; exact k2, fun e2 h1 h2 h3 => ?_⟩
        by_cases q2 : e2 = N
        · subst q2
          rw [upd_at] at h3
          exact absurd ((nI_eq (by omega) (by omega)).mp h3).symm q
        · rw [upd_ne _ q2] at h3 ⊢
          exact k3 e2 (by omega) h2 h3
theorem Bk.new (h : Bk n N w tr so mi by_ yd lost sld) (hn : n < 12) {m0 : Int32} {y : Nat} (hm : isN m0 w) (hy : y < 8) (hse : sld n = 0) (hlo : lost n = 0) :
    Bk (n + 1) (N + 1) w (upd tr N (nI n)) (upd so N (nI 0)) (upd mi N m0) (upd by_ N (nI y)) (upd yd N (nI y)) lost sld := by
  obtain ⟨b1, b2, b3, b4, b5⟩ := h
  refine ⟨fun e he => ?_, fun t ht2 => ?_, fun e he h5e => ?_, fun t ht2 => ?_, fun t ht2 => ?_⟩
  · by_cases q : e = N
    · subst q
      rw [upd_at, upd_at, upd_at, upd_at, upd_at]
      exact ⟨⟨n, by omega, rfl⟩, hm, 0, by decide, rfl, fun _ => ⟨y, hy, rfl, rfl⟩, fun q => absurd q (by decide)⟩
    · rw [upd_ne _ q, upd_ne _ q, upd_ne _ q, upd_ne _ q, upd_ne _ q]
      obtain ⟨⟨t, ht, ht2⟩, g⟩ := b1 e (by omega)
      exact ⟨⟨t, by omega, ht2⟩, g⟩
  · by_cases q : t = n
    · subst q
      refine ⟨N, by omega, upd_at _ _ _, upd_at _ _ _, fun e' he' => ?_⟩
      rw [upd_ne _ (by omega)]
      obtain ⟨⟨t', ht', ht2⟩, -⟩ := b1 e' he'
      rw [ht2]
      exact fun g => absurd ((nI_eq (by omega) (by omega)).mp g) (by omega)
    · obtain ⟨e, he, g1, g2, g3⟩ := b2 t (by omega)
      refine ⟨e, by omega, ?_, ?_, fun e' he' => ?_⟩
      · rw [upd_ne _ (by omega)]; exact g1
      · rw [upd_ne _ (by omega)]; exact g2
      · rw [upd_ne _ (by omega)]; exact g3 e' he'
  · by_cases q : e = N
    · subst q
      rw [upd_at] at h5e
      exact absurd ((nI_eq (by decide) (by decide)).mp h5e) (by decide)
    · rw [upd_ne _ q] at h5e
      obtain ⟨e', he', g1, g2⟩ := b3 e (by omega) h5e
      refine ⟨e', he', ?_, ?_⟩
      · rw [upd_ne _ (by omega), upd_ne _ q]; exact g1
      · rw [upd_ne _ (by omega)]; exact g2
  · by_cases q : t = n
    · subst q
      exact Or.inl hse
    · rcases b4 t (by omega) with g | ⟨g, e', he', k1, k2⟩
      · exact Or.inl g
      · exact Or.inr ⟨g, e', by omega, by rw [upd_ne _ (by omega)]; exact k1, by rw [upd_ne _ (by omega)]; exact k2⟩
  · by_cases q : t = n
    · subst q
      exact Or.inl hlo
    · rcases b5 t (by omega) with g | ⟨g, e', he', k1, k2, k3⟩
      · exact Or.inl g
      · refine Or.inr ⟨g, e', by omega, by rw [upd_ne _ (by omega)]; exact k1, by rw [upd_ne _ (by omega)]; exact k2, fun e2 h1 h2 h3 => ?_⟩
        by_cases q2 : e2 = N
        · subst q2
          rw [upd_at] at h3
          exact absurd ((nI_eq (by omega) (by omega)).mp h3) (by omega)
        · rw [upd_ne _ q2] at h3 ⊢
          exact k3 e2 (by omega) h2 h3
end Book
theorem n9_nI {t : Nat} (h : t < 2 ^ 31) : ¬ (-9 : Int32) = nI t := fun q => nI_n9 h q.symm
section Trac
variable {n : Nat} {stands hit lost yards since has : Nat → Int32}
theorem Tk.hitch (h : Tk n stands hit lost yards since has) (hn : n ≤ 12) {t k y : Nat} (ht : t < n) (hk : k < 6) (hy : y < 8) (hst : stands t = nI y) (hl : lost t = 0) : Tk n (upd stands t (-9)) (upd hit t (nI k)) lost yards since (upd has k (nI t)) := by
  refine ⟨fun j hj => ?_, fun t' ht' => ?_⟩
  · obtain ⟨a1, a2, a3⟩ := h.1 j hj
    refine ⟨a1, a2, ?_⟩
    by_cases q : j = k
    · subst q
      rw [upd_at]
      exact Or.inr ⟨t, ht, rfl, upd_at _ _ _, upd_at _ _ _, hl⟩
    · rw [upd_ne _ q]
      rcases a3 with a3 | ⟨t', g1, g2, g3, g4, g5⟩
      · exact Or.inl a3
      · have q2 : t' ≠ t := fun q2 => by
          subst q2
          rw [hst] at g4
          exact nI_n9 (by omega) g4
        exact Or.inr ⟨t', g1, g2, by rw [upd_ne _ q2]; exact g3, by rw [upd_ne _ q2]; exact g4, g5⟩
  · obtain ⟨a1, a2, a3⟩ := h.2 t' ht'
    by_cases q : t' = t
    · subst q
      rw [upd_at, upd_at]
      exact ⟨Or.inr ⟨k, hk, rfl⟩, fun _ => rfl, Or.inl rfl⟩
    · rw [upd_ne _ q, upd_ne _ q]
      exact ⟨a1, a2, a3⟩
theorem Tk.drop (h : Tk n stands hit lost yards since has) (hn : n ≤ 12) {t k y : Nat} (ht : t < n) (hk : k < 6) (hy : y < 8) (hh : hit t = nI k) (hl : lost t = 0) : Tk n (upd stands t (nI y)) (upd hit t (-9)) lost yards since (upd has k (-9)) := by
  refine ⟨fun j hj => ?_, fun t' ht' => ?_⟩
  · obtain ⟨a1, a2, a3⟩ := h.1 j hj
    refine ⟨a1, a2, ?_⟩
    by_cases q : j = k
    · subst q
      rw [upd_at]
      exact Or.inl rfl
    · rw [upd_ne _ q]
      rcases a3 with a3 | ⟨t', g1, g2, g3, g4, g5⟩
      · exact Or.inl a3
      · have q2 : t' ≠ t := fun q2 => by
          subst q2
          rw [hh] at g3
          exact q ((nI_eq (by omega) (by omega)).mp g3).symm
        exact Or.inr ⟨t', g1, g2, by rw [upd_ne _ q2]; exact g3, by rw [upd_ne _ q2]; exact g4, g5⟩
  · obtain ⟨a1, a2, a3⟩ := h.2 t' ht'
    by_cases q : t' = t
    · subst q
      rw [upd_at, upd_at]
      exact ⟨Or.inl rfl, fun g => by rw [hl] at g; exact absurd g (by decide), Or.inr ⟨y, hy, rfl⟩⟩
    · rw [upd_ne _ q, upd_ne _ q]
      exact ⟨a1, a2, a3⟩
/-- no tractor has it that is not hitched -/
theorem Tk.free (h : Tk n stands hit lost yards since has) {t : Nat} (hh : hit t = -9) {k : Nat} (hk : k < 6) {t' : Nat} (ht' : has k = nI t') (hb : t' < n) (hn : n ≤ 12) (q : t' = t) : False := by
  rcases (h.1 k hk).2.2 with g | ⟨t2, g1, g2, g3, -⟩
  · rw [ht'] at g
    exact nI_n9 (by omega) g
  · rw [ht'] at g2
    have e := (nI_eq (by omega) (by omega)).mp g2
    subst e q
    rw [hh] at g3
    exact n9_nI (by omega) g3
theorem Tk.lose (h : Tk n stands hit lost yards since has) (hn : n ≤ 12) {t : Nat} (ht : t < n) (hh : hit t = -9) : Tk n (upd stands t (-9)) (upd hit t (-9)) (upd lost t 1) yards since has := by
  refine ⟨fun j hj => ?_, fun t' ht' => ?_⟩
  · obtain ⟨a1, a2, a3⟩ := h.1 j hj
    refine ⟨a1, a2, ?_⟩
    rcases a3 with a3 | ⟨t', g1, g2, g3, g4, g5⟩
    · exact Or.inl a3
    · have q2 : t' ≠ t := fun q2 => h.free hh hj g2 g1 hn q2
      exact Or.inr ⟨t', g1, g2, by rw [upd_ne _ q2]; exact g3, by rw [upd_ne _ q2]; exact g4, by rw [upd_ne _ q2]; exact g5⟩
  · obtain ⟨a1, a2, a3⟩ := h.2 t' ht'
    by_cases q : t' = t
    · subst q
      rw [upd_at, upd_at]
      exact ⟨Or.inl rfl, fun _ => upd_at _ _ _, Or.inl (upd_at _ _ _)⟩
    · rw [upd_ne _ q, upd_ne _ q, upd_ne _ q]
      exact ⟨a1, a2, a3⟩
theorem Tk.loseH (h : Tk n stands hit lost yards since has) (hn : n ≤ 12) {t k : Nat} (ht : t < n) (hk : k < 6) (hh : hit t = nI k) : Tk n (upd stands t (-9)) (upd hit t (-9)) (upd lost t 1) yards since (upd has k (-9)) := by
  refine ⟨fun j hj => ?_, fun t' ht' => ?_⟩
  · obtain ⟨a1, a2, a3⟩ := h.1 j hj
    refine ⟨a1, a2, ?_⟩
    by_cases q : j = k
    · subst q
      rw [upd_at]
      exact Or.inl rfl
    · rw [upd_ne _ q]
      rcases a3 with a3 | ⟨t', g1, g2, g3, g4, g5⟩
      · exact Or.inl a3
      · have q2 : t' ≠ t := fun q2 => by
          subst q2
          rw [hh] at g3
          exact q ((nI_eq (by omega) (by omega)).mp g3).symm
        exact Or.inr ⟨t', g1, g2, by rw [upd_ne _ q2]; exact g3, by rw [upd_ne _ q2]; exact g4, by rw [upd_ne _ q2]; exact g5⟩
  · obtain ⟨a1, a2, a3⟩ := h.2 t' ht'
    by_cases q : t' = t
    · subst q
      rw [upd_at, upd_at]
      exact ⟨Or.inl rfl, fun _ => upd_at _ _ _, Or.inl (upd_at _ _ _)⟩
    · rw [upd_ne _ q, upd_ne _ q, upd_ne _ q]
      exact ⟨a1, a2, a3⟩
theorem Tk.find (h : Tk n stands hit lost yards since has) {t y : Nat} (ht : t < n) (hy : y < 8) (hl : lost t = 1) : Tk n (upd stands t (nI y)) hit (upd lost t 0) yards since has := by
  refine ⟨fun j hj => ?_, fun t' ht' => ?_⟩
  · obtain ⟨a1, a2, a3⟩ := h.1 j hj
    refine ⟨a1, a2, ?_⟩
    rcases a3 with a3 | ⟨t', g1, g2, g3, g4, g5⟩
    · exact Or.inl a3
    · have q2 : t' ≠ t := fun q2 => by
        subst q2
        rw [hl] at g5
        exact absurd g5 (by decide)
      exact Or.inr ⟨t', g1, g2, g3, by rw [upd_ne _ q2]; exact g4, by rw [upd_ne _ q2]; exact g5⟩
  · obtain ⟨a1, a2, a3⟩ := h.2 t' ht'
    by_cases q : t' = t
    · subst q
      rw [upd_at, upd_at]
      exact ⟨a1, fun g => absurd g (by decide), Or.inr ⟨y, hy, rfl⟩⟩
    · rw [upd_ne _ q, upd_ne _ q]
      exact ⟨a1, a2, a3⟩
theorem Tk.new (h : Tk n stands hit lost yards since has) {y : Nat} (hy : y < 8) (hl : lost n = 0) : Tk (n + 1) (upd stands n (nI y)) (upd hit n (-9)) lost yards since has := by
  refine ⟨fun j hj => ?_, fun t' ht' => ?_⟩
  · obtain ⟨a1, a2, a3⟩ := h.1 j hj
    refine ⟨a1, a2, ?_⟩
    rcases a3 with a3 | ⟨t', g1, g2, g3, g4, g5⟩
    · exact Or.inl a3
    · have q2 : t' ≠ n := by omega
      exact Or.inr ⟨t', by omega, g2, by rw [upd_ne _ q2]; exact g3, by rw [upd_ne _ q2]; exact g4, g5⟩
  · by_cases q : t' = n
    · subst q
      rw [upd_at, upd_at]
      exact ⟨Or.inl rfl, fun g => by rw [hl] at g; exact absurd g (by decide), Or.inr ⟨y, hy, rfl⟩⟩
    · rw [upd_ne _ q, upd_ne _ q]
      exact h.2 t' (by omega)
end Trac
/-! a trailer's fields on both sides -/
section Fld
variable {σ τ : St} {L : Nat → Option Nat} {A A' M M' : Nat → Nat → Int32} {n : Nat}
theorem ixD_is {b N t : Nat} (ht : t < N) (hN : N < 2 ^ 31) {m : Nat} (hL : cL σ (b + t) = some m) : ixD σ b N (nI t) = some t := by
  unfold ixD ixA
  rw [if_neg (nI_in ht hN), nI_clamp (by omega)]
  show (if (cL σ (b + t)).isSome = true then some t else none) = some t
  rw [hL]
  rfl
theorem ixA_is {N t : Nat} (ht : t < N) (hN : N < 2 ^ 31) : ixA N (nI t) = some t := by
  unfold ixA
  rw [if_neg (nI_in ht hN), nI_clamp (by omega)]
theorem rdT_is {q f kd : Nat} (hL : cL σ q = some kd) (hf : okT kd f = true) : rdT σ q f = some (cA σ q f) := by
  unfold rdT
  rw [hL]
  show (if okT kd f = true then _ else _) = _
  rw [if_pos hf]
theorem wrT_is {q f kd : Nat} {v : Int32} (hL : cL σ q = some kd) (hf : okT kd f = true) : wrT σ q f v = some (sA σ q f v) := by
  unfold wrT
  rw [hL]
  show (if okT kd f = true then _ else _) = _
  rw [if_pos hf]
theorem okT_lo {kd f : Nat} (h : f < 8) : okT kd f = true := by
  unfold okT
  simp [h]
/-- a field of a trailer changes on both sides -/
theorem Rtr.wT (h : Rtr (cL σ) (cA σ) (cA τ) n) (hn : n ≤ 12) {t : Nat} (ht : t < n) {f m : Nat} (hp : (f, m) ∈ tfm) {v : Int32} : Rtr (cL (sA σ (120 + t) f v)) (cA (sA σ (120 + t) f v)) (cA (sA τ m t v)) n := by
  have hf0 : ∀ p ∈ tfm, p.1 ≠ 0 ∧ p.2 ≠ 17 ∧ p.2 ≠ 24 ∧ p.2 ≠ 25 := by decide
  obtain ⟨f0, m17, m24, m25⟩ := hf0 _ hp
  dsimp only at f0 m17 m24 m25
  refine ⟨fun t' ht' => ?_, fun t' h1 h2 => ?_⟩
  · obtain ⟨kd, h1, h2, h3, h4, h5, h6, h7, h8⟩ := h.1 t' ht'
    refine ⟨kd, h1, h2, ?_, h4, h5, ?_, fun p hp' ho => ?_, fun j hj => ?_⟩
    · rw [cA_sA, if_neg (Ne.symm m17)]; exact h3
    · rw [cA_sA]
      by_cases q : t' = t
      · subst q
        rw [if_pos rfl, upd_ne _ (Ne.symm f0)]; exact h6
      · rw [if_neg (by omega)]; exact h6
    · rw [cA_sA, cA_sA]
      by_cases q : t' = t
      · subst q
        rw [if_pos rfl]
        by_cases q2 : p.1 = f
        · rw [if_pos ((tfm_u p hp' (f, m) hp).mp q2), q2, upd_at, upd_at]
        · rw [if_neg (fun r => q2 ((tfm_u p hp' (f, m) hp).mpr r)), upd_ne _ q2]
          exact h7 p hp' ho
      · rw [if_neg (by omega)]
        by_cases q2 : p.2 = m
        · rw [if_pos q2, upd_ne _ q, ← q2]
          exact h7 p hp' ho
        · rw [if_neg q2]
          exact h7 p hp' ho
    · rw [cA_sA, cA_sA, cA_sA, cA_sA, if_neg (show ¬ 140 + t' = 120 + t by omega), if_neg (show ¬ 160 + t' = 120 + t by omega), if_neg (Ne.symm m24), if_neg (Ne.symm m25)]
      exact h8 j hj
  · have q : t' ≠ t := by omega
    have hM : ∀ k, cA (sA τ m t v) k t' = cA τ k t' := fun k => by
      rw [cA_sA]
      by_cases q2 : k = m
      · rw [if_pos q2, upd_ne _ q, ← q2]
      · rw [if_neg q2]
    have h24 : cA (sA τ m t v) 24 = cA τ 24 := by rw [cA_sA, if_neg (Ne.symm m24)]
    have h25 : cA (sA τ m t v) 25 = cA τ 25 := by rw [cA_sA, if_neg (Ne.symm m25)]
    have g := h.2 t' h1 h2
    unfold Tr0 at g ⊢
    rw [hM 20, hM 23, hM 26, hM 28, h24, h25]
    exact g
/-- a load is laid -/
theorem Rtr.wW (h : Rtr (cL σ) (cA σ) (cA τ) n) (hn : n ≤ 12) {t l : Nat} (ht : t < n) (hl : l < 6) {b m : Nat} (hbm : (b = 140 ∧ m = 24) ∨ (b = 160 ∧ m = 25)) {v : Int32} : Rtr (cL (sA σ (b + t) l v)) (cA (sA σ (b + t) l v)) (cA (sA τ m (6 * t + l) v)) n := by
  have hM : ∀ k, k ≠ 24 → k ≠ 25 → cA (sA τ m (6 * t + l) v) k = cA τ k := fun k h1 h2 => by rw [cA_sA, if_neg (by omega)]
  refine ⟨fun t' ht' => ?_, fun t' h1 h2 => ?_⟩
  · obtain ⟨kd, h1, h2, h3, h4, h5, h6, h7, h8⟩ := h.1 t' ht'
    have hA : cA (sA σ (b + t) l v) (120 + t') = cA σ (120 + t') := by rw [cA_sA, if_neg (by omega)]
    refine ⟨kd, h1, h2, by rw [hM 17 (by decide) (by decide)]; exact h3, h4, h5, by rw [hA]; exact h6, fun p hp ho => ?_, fun j hj => ?_⟩
    · have : ∀ p ∈ tfm, p.2 ≠ 24 ∧ p.2 ≠ 25 := by decide
      rw [hA, hM _ (this p hp).1 (this p hp).2]
      exact h7 p hp ho
    · obtain ⟨g1, g2⟩ := h8 j hj
      rcases hbm with ⟨rfl, rfl⟩ | ⟨rfl, rfl⟩
      · refine ⟨?_, ?_⟩
        · rw [cA_sA, cA_sA, if_pos rfl]
          by_cases q : t' = t
          · subst q
            rw [if_pos rfl]
            by_cases q2 : j = l
            · subst q2; rw [upd_at, upd_at]
            · rw [upd_ne _ q2, upd_ne _ (by omega)]; exact g1
          · rw [if_neg (by omega), upd_ne _ (by omega)]; exact g1
        · rw [cA_sA, cA_sA, if_neg (by omega), if_neg (by decide)]; exact g2
      · refine ⟨?_, ?_⟩
        · rw [cA_sA, cA_sA, if_neg (by omega), if_neg (by decide)]; exact g1
        · rw [cA_sA, cA_sA, if_pos rfl]
          by_cases q : t' = t
          · subst q
            rw [if_pos rfl]
            by_cases q2 : j = l
            · subst q2; rw [upd_at, upd_at]
            · rw [upd_ne _ q2, upd_ne _ (by omega)]; exact g2
          · rw [if_neg (by omega), upd_ne _ (by omega)]; exact g2
  · have g := h.2 t' h1 h2
    unfold Tr0 at g ⊢
    rw [hM 20 (by decide) (by decide), hM 23 (by decide) (by decide), hM 26 (by decide) (by decide), hM 28 (by decide) (by decide)]
    refine ⟨g.1, g.2.1, g.2.2.1, g.2.2.2.1, g.2.2.2.2.1, fun j hj => ?_⟩
    obtain ⟨k1, k2⟩ := g.2.2.2.2.2 j hj
    rcases hbm with ⟨rfl, rfl⟩ | ⟨rfl, rfl⟩
    · refine ⟨?_, ?_⟩
      · rw [cA_sA, if_pos rfl, upd_ne _ (by omega)]; exact k1
      · rw [cA_sA, if_neg (by decide)]; exact k2
    · refine ⟨?_, ?_⟩
      · rw [cA_sA, if_neg (by decide)]; exact k1
      · rw [cA_sA, if_pos rfl, upd_ne _ (by omega)]; exact k2
theorem sA_comm (σ : St) {k j : Nat} (h : k ≠ j) (i i' : Nat) (v v' : Int32) : sA (sA σ k i v) j i' v' = sA (sA σ j i' v') k i v := by
  rw [sA_eq, sA_eq, sA_eq, sA_eq, cA_sAr_ne _ (Ne.symm h), cA_sAr_ne _ h, sAr_comm _ h]
end Fld

/-! what an operation on trailers and the book leaves alone -/
def Mid (σ σ' : St) : Prop := (∀ k, 36 ≤ k → k ≤ 39 → cA σ' k = cA σ k) ∧ cA σ' 48 = cA σ 48 ∧ ∀ k, 100 ≤ k → k < 120 → cL σ' k = cL σ k ∧ cA σ' k = cA σ k
def midM : List Nat := [6, 7, 9, 10, 11, 12, 13, 14, 41, 42, 43, 59]
def MidM (τ τ' : St) : Prop := (∀ k ∈ midM, cA τ' k = cA τ k) ∧ cI τ' 58 = cI τ 58 ∧ cI τ' 69 = cI τ 69
section Mid0
variable {σ σ' τ τ' : St}
theorem Mid.rfl : Mid σ σ := ⟨fun _ _ _ => Eq.refl _, Eq.refl _, fun _ _ _ => ⟨Eq.refl _, Eq.refl _⟩⟩
theorem Mid.wI (h : Mid σ σ') {k : Nat} {v : Int32} : Mid σ (sI σ' k v) := h
theorem Mid.wJ (h : Mid σ σ') {k : Nat} {v : Int64} : Mid σ (sJ σ' k v) := h
theorem Mid.wAr (h : Mid σ σ') {k : Nat} {f : Nat → Int32} (m : k < 36 ∨ (39 < k ∧ k < 48) ∨ (48 < k ∧ k < 100) ∨ 120 ≤ k) : Mid σ (sAr σ' k f) :=
  ⟨fun j h1 h2 => by rw [cA_sAr, if_neg (by omega)]; exact h.1 j h1 h2, by rw [cA_sAr, if_neg (by omega)]; exact h.2.1, fun j h1 h2 => ⟨(h.2.2 j h1 h2).1, by rw [cA_sAr, if_neg (by omega)]; exact (h.2.2 j h1 h2).2⟩⟩
theorem Mid.wA (h : Mid σ σ') {k i : Nat} {v : Int32} (m : k < 36 ∨ (39 < k ∧ k < 48) ∨ (48 < k ∧ k < 100) ∨ 120 ≤ k) : Mid σ (sA σ' k i v) := h.wAr m
theorem Mid.wL (h : Mid σ σ') {k : Nat} {n : Option Nat} (m : 120 ≤ k) : Mid σ (sL σ' k n) := ⟨h.1, h.2.1, fun j h1 h2 => ⟨by rw [cL_sL, if_neg (by omega)]; exact (h.2.2 j h1 h2).1, (h.2.2 j h1 h2).2⟩⟩
theorem MidM.rfl : MidM τ τ := ⟨fun _ _ => Eq.refl _, Eq.refl _, Eq.refl _⟩
theorem MidM.wI (h : MidM τ τ') {k : Nat} {v : Int32} (m : k ≠ 58 ∧ k ≠ 69) : MidM τ (sI τ' k v) := ⟨h.1, by rw [cI_sI, if_neg (Ne.symm m.1)]; exact h.2.1, by rw [cI_sI, if_neg (Ne.symm m.2)]; exact h.2.2⟩
theorem MidM.wJ (h : MidM τ τ') {k : Nat} {v : Int64} : MidM τ (sJ τ' k v) := h
theorem MidM.wAr (h : MidM τ τ') {k : Nat} {f : Nat → Int32} (m : k ∉ midM) : MidM τ (sAr τ' k f) := ⟨fun j hj => by rw [cA_sAr, if_neg (show ¬ j = k from fun q => m (by rw [← q]; exact hj))]; exact h.1 j hj, h.2⟩
theorem MidM.wA (h : MidM τ τ') {k i : Nat} {v : Int32} (m : k ∉ midM) : MidM τ (sA τ' k i v) := h.wAr m
theorem R.mk2 (h : R σ τ) (hm : Mid σ σ') (hmm : MidM τ τ') (hq : Req σ' τ') (hk : ∀ w n N q, Cn τ w n N q → Rtr (cL σ) (cA σ) (cA τ) n → Bk n N w (cA τ 35) (cA τ 36) (cA τ 37) (cA τ 38) (cA τ 39) (cA τ 20) (cA τ 26) → Tk n (cA τ 18) (cA τ 19) (cA τ 20) (cA τ 29) (cA τ 30) (cA τ 31) → Ld n (cA τ 21) (cA τ 22) (cA τ 23) →
    ∃ w' n' N', Cn τ' w' n' N' q ∧ Rtr (cL σ') (cA σ') (cA τ') n' ∧ Bk n' N' w' (cA τ' 35) (cA τ' 36) (cA τ' 37) (cA τ' 38) (cA τ' 39) (cA τ' 20) (cA τ' 26) ∧ Tk n' (cA τ' 18) (cA τ' 19) (cA τ' 20) (cA τ' 29) (cA τ' 30) (cA τ' 31) ∧ Ld n' (cA τ' 21) (cA τ' 22) (cA τ' 23)) : R σ' τ' := by
  obtain ⟨w, n, N, q, h1, h2, h3, h4, h5, h6, h7, h8, h9, h10⟩ := h
  obtain ⟨w', n', N', k1, k2, k3, k4, k5⟩ := hk w n N q h1 h4 h7 h8 h9
  refine ⟨w', n', N', q, k1, hq, ⟨?_, ?_⟩, k2, ?_, ?_, k3, k4, k5, ?_⟩
  · rw [hmm.1 6 (by decide), hmm.1 7 (by decide)]
    exact h3.1.to (fun k hk => (hm.2.2 _ (by omega) (by omega)).1) (fun k hk => (hm.2.2 _ (by omega) (by omega)).2)
  · rw [hmm.1 9 (by decide), hmm.1 10 (by decide)]
    exact h3.2.to (fun k hk => (hm.2.2 _ (by omega) (by omega)).1) (fun k hk => (hm.2.2 _ (by omega) (by omega)).2)
  · rw [hm.1 36 (by decide) (by decide), hm.1 37 (by decide) (by decide), hm.1 38 (by decide) (by decide), hm.1 39 (by decide) (by decide), hmm.1 43 (by decide), hmm.1 41 (by decide), hmm.1 42 (by decide)]
    exact h5
  · rw [hmm.2.1, hmm.2.2, hm.2.1, hmm.1 59 (by decide)]
    exact h6
  · rw [hmm.1 11 (by decide), hmm.1 12 (by decide), hmm.1 13 (by decide), hmm.1 14 (by decide)]
    exact h10
end Mid0
