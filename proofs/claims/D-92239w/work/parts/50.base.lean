/-! plain law: two computations side by side; loops by invariants -/
def Sim {α β : Type} (x : Option α) (y : Option β) (Q : α → β → Prop) : Prop := ∃ a b, x = some a ∧ y = some b ∧ Q a b
section Sim0
variable {α β γ δ α' β' : Type}
theorem Sim.mk {Q : α → β → Prop} {a : α} {b : β} (h : Q a b) : Sim (some a) (some b) Q := ⟨a, b, rfl, rfl, h⟩
theorem Sim.mono {x : Option α} {y : Option β} {P Q : α → β → Prop} (h : Sim x y P) (k : ∀ a b, P a b → Q a b) : Sim x y Q := by
  obtain ⟨a, b, h1, h2, h3⟩ := h
  exact ⟨a, b, h1, h2, k a b h3⟩
theorem Sim.b1 {x : Option α} {y : Option β} {P : α → β → Prop} {f : α → Option γ} {g : β → Option δ} {Q : γ → δ → Prop} (h : Sim x y P) (k : ∀ a b, P a b → Sim (f a) (g b) Q) : Sim (B1 x f) (B1 y g) Q := by
  obtain ⟨a, b, rfl, rfl, h3⟩ := h
  exact k a b h3
theorem Sim.b2 {x : Option (α × α')} {y : Option (β × β')} {P : α × α' → β × β' → Prop} {f : α → α' → Option γ} {g : β → β' → Option δ} {Q : γ → δ → Prop} (h : Sim x y P) (k : ∀ a a' b b', P (a, a') (b, b') → Sim (f a a') (g b b') Q) : Sim (B2 x f) (B2 y g) Q := by
  obtain ⟨⟨a, a'⟩, ⟨b, b'⟩, rfl, rfl, h3⟩ := h
  exact k a a' b b' h3
theorem Sim.ite {c d : Prop} [Decidable c] [Decidable d] {x x' : Option α} {y y' : Option β} {Q : α → β → Prop} (h : c ↔ d) (ht : c → Sim x y Q) (hf : ¬ c → Sim x' y' Q) : Sim (if c then x else x') (if d then y else y') Q := by
  by_cases hc : c
  · rw [if_pos hc, if_pos (h.mp hc)]; exact ht hc
  · rw [if_neg hc, if_neg (fun hd => hc (h.mpr hd))]; exact hf hc
/-- conditions the other way round -/
theorem Sim.iteN {c d : Prop} [Decidable c] [Decidable d] {x x' : Option α} {y y' : Option β} {Q : α → β → Prop} (h : c ↔ ¬ d) (ht : c → Sim x y' Q) (hf : ¬ c → Sim x' y Q) : Sim (if c then x else x') (if d then y else y') Q := by
  by_cases hc : c
  · rw [if_pos hc, if_neg (h.mp hc)]; exact ht hc
  · rw [if_neg hc, if_pos (Classical.byContradiction fun hd => hc (h.mpr hd))]; exact hf hc
end Sim0
/-- a loop that counts to n, by an invariant; it may leave early -/
theorem lp_forI {T E : Type} {step : T → Option (T ⊕ E)} (n : Nat) (I : Nat → T → Prop) (Q : E → Prop) (hs : ∀ i t, I i t → (i < n ∧ ∃ u, step t = some (.inl u) ∧ I (i + 1) u) ∨ ∃ e, step t = some (.inr e) ∧ Q e) {i : Nat} {t : T} (h0 : I i t) : ∃ e, lp step t = some e ∧ Q e := by
  have key : ∀ (k i : Nat) (t : T), n - i ≤ k → I i t → ∃ e, lp step t = some e ∧ Q e := by
    intro k
    induction k with
    | zero =>
      intro i t hk hi
      rcases hs i t hi with ⟨h1, -⟩ | ⟨e, h1, h2⟩
      · omega
      · exact ⟨e, lp_end h1, h2⟩
    | succ k ih =>
      intro i t hk hi
      rcases hs i t hi with ⟨h1, u, h2, h3⟩ | ⟨e, h1, h2⟩
      · obtain ⟨e, g1, g2⟩ := ih (i + 1) u (by omega) h3
        exact ⟨e, by rw [lp_go h2]; exact g1, g2⟩
      · exact ⟨e, lp_end h1, h2⟩
  exact key _ i t (Nat.le_refl _) h0
/-- two loops in step -/
theorem lp_sim {T T' E E' : Type} {step : T → Option (T ⊕ E)} {step' : T' → Option (T' ⊕ E')} (n : Nat) (I : Nat → T → T' → Prop) (Q : E → E' → Prop) (hs : ∀ i t t', I i t t' → (i < n ∧ ∃ u u', step t = some (.inl u) ∧ step' t' = some (.inl u') ∧ I (i + 1) u u') ∨ ∃ e e', step t = some (.inr e) ∧ step' t' = some (.inr e') ∧ Q e e') {i : Nat} {t : T} {t' : T'} (h0 : I i t t') : Sim (lp step t) (lp step' t') Q := by
  have key : ∀ (k i : Nat) (t : T) (t' : T'), n - i ≤ k → I i t t' → Sim (lp step t) (lp step' t') Q := by
    intro k
    induction k with
    | zero =>
      intro i t t' hk hi
      rcases hs i t t' hi with ⟨h1, -⟩ | ⟨e, e', h1, h2, h3⟩
      · omega
      · exact ⟨e, e', lp_end h1, lp_end h2, h3⟩
    | succ k ih =>
      intro i t t' hk hi
      rcases hs i t t' hi with ⟨h1, u, u', h2, h3, h4⟩ | ⟨e, e', h1, h2, h3⟩
      · have g := ih (i + 1) u u' (by omega) h4
        rw [lp_go h2, lp_go h3]
        exact g
      · exact ⟨e, e', lp_end h1, lp_end h2, h3⟩
  exact key _ i t t' (Nat.le_refl _) h0
/-! numbers -/
theorem n10 : ((1 : Int32) = 0) = False := eq_false (by decide)
theorem n00 : ((0 : Int32) = 0) = True := eq_true rfl
theorem bZ_1 : bZ 1 = some 1 := by unfold bZ; rw [if_pos (Or.inr rfl)]
theorem bZ_0 : bZ 0 = some 0 := by unfold bZ; rw [if_pos (Or.inl rfl)]
theorem nr_1 : vp_nar .boolean 1 = 1 := by decide
theorem nr_0 : vp_nar .boolean 0 = 0 := by decide
abbrev nN (x : Int32) : Nat := x.toNatClampNeg
/-- a number up to b -/
def isN (x : Int32) (b : Nat) : Prop := ∃ j, j ≤ b ∧ x = nI j
theorem isN.nN {x : Int32} {b : Nat} (h : isN x b) (hb : b < 2 ^ 31) : nN x ≤ b ∧ x = nI (nN x) := by
  obtain ⟨j, h1, rfl⟩ := h
  have e : (nI j).toNatClampNeg = j := nI_clamp (by omega)
  exact ⟨by show (nI j).toNatClampNeg ≤ b; omega, by show nI j = nI (nI j).toNatClampNeg; rw [e]⟩
theorem nN_nI {j : Nat} (h : j < 2 ^ 31) : nN (nI j) = j := nI_clamp h
theorem nI_in2 {a l h : Int32} {L H : Int} (hl : l.toInt = L) (hh : h.toInt = H) : (¬ a < l ∧ ¬ h < a) ↔ (L ≤ a.toInt ∧ a.toInt ≤ H) := by
  rw [Int32.lt_iff_toInt_lt, Int32.lt_iff_toInt_lt, hl, hh]
  omega
/-! in(..): both sides -/
theorem c_in_t {a l h : Int32} (h1 : ¬ a < l) (h2 : ¬ h < a) : c_in a l h = some 1 := by
  unfold c_in
  rw [if_neg h1, if_neg h2, B1_some, bZ_1, B1_some]
theorem c_in_f {a l h : Int32} (h1 : a < l ∨ h < a) : c_in a l h = some 0 := by
  unfold c_in
  by_cases h2 : a < l
  · rw [if_pos h2, B1_some, bZ_0, B1_some]
  · rw [if_neg h2, if_pos (h1.resolve_left h2), B1_some, bZ_0, B1_some]
theorem m_in_c (a l h : Int32) : m_in a l h = c_in a l h := rfl
theorem in_cases (a l h : Int32) : (¬ a < l ∧ ¬ h < a ∧ c_in a l h = some 1) ∨ ((a < l ∨ h < a) ∧ c_in a l h = some 0) := by
  by_cases h1 : a < l ∨ h < a
  · exact Or.inr ⟨h1, c_in_f h1⟩
  · have h2 : ¬ a < l := fun q => h1 (Or.inl q)
    have h3 : ¬ h < a := fun q => h1 (Or.inr q)
    exact Or.inl ⟨h2, h3, c_in_t h2 h3⟩
/-- from 0 to N -/
theorem rng_cases (a hi : Int32) {N : Nat} (hN : hi.toInt = (N : Int)) : (∃ j, j ≤ N ∧ a = nI j ∧ c_in a 0 hi = some 1) ∨ ((∀ j, j ≤ N → a ≠ nI j) ∧ c_in a 0 hi = some 0) := by
  have hN2 : N < 2 ^ 31 := by have := Int32.toInt_lt hi; omega
  rcases in_cases a 0 hi with ⟨h1, h2, h3⟩ | ⟨h1, h2⟩
  · obtain ⟨j, hj, rfl⟩ := nI_of2 (M := hi) hN h1 (Int32.not_lt.mp h2)
    exact Or.inl ⟨j, hj, rfl, h3⟩
  · refine Or.inr ⟨fun j hj e => ?_, h2⟩
    subst e
    rcases h1 with h1 | h1
    · exact nI_pos (by omega) h1
    · rw [Int32.lt_iff_toInt_lt, hN, nI_toInt (by omega)] at h1
      omega
theorem wrap_is {x : Int32} {v : Int32} (h : c_in x 0 v = some 1) : B1 (c_in x 0 v) (fun v2 => B1 (bZ v2) fun v4 => some v4) = some 1 := by rw [h, B1_some, bZ_1, B1_some]
theorem wrap_is0 {x : Int32} {v : Int32} (h : c_in x 0 v = some 0) : B1 (c_in x 0 v) (fun v2 => B1 (bZ v2) fun v4 => some v4) = some 0 := by rw [h, B1_some, bZ_0, B1_some]
theorem row_cases (a : Int32) : (∃ j, j < 6 ∧ a = nI j ∧ c_isRow a = some 1 ∧ m_isRow a = some 1) ∨ (c_isRow a = some 0 ∧ m_isRow a = some 0) := by
  rcases rng_cases a 5 (N := 5) (by decide) with ⟨j, h1, h2, h3⟩ | ⟨-, h3⟩
  · exact Or.inl ⟨j, by omega, h2, wrap_is h3, wrap_is h3⟩
  · exact Or.inr ⟨wrap_is0 h3, wrap_is0 h3⟩
theorem text_cases (a : Int32) : (∃ j, j < 4 ∧ a = nI j ∧ c_isText a = some 1 ∧ m_isText a = some 1) ∨ (c_isText a = some 0 ∧ m_isText a = some 0) := by
  rcases rng_cases a 3 (N := 3) (by decide) with ⟨j, h1, h2, h3⟩ | ⟨-, h3⟩
  · exact Or.inl ⟨j, by omega, h2, wrap_is h3, wrap_is h3⟩
  · exact Or.inr ⟨wrap_is0 h3, wrap_is0 h3⟩
theorem yard_cases (a : Int32) : (∃ j, j < 8 ∧ a = nI j ∧ c_isYard a = some 1 ∧ m_isYard a = some 1) ∨ ((∀ j, j < 8 → a ≠ nI j) ∧ c_isYard a = some 0 ∧ m_isYard a = some 0) := by
  rcases rng_cases a 7 (N := 7) (by decide) with ⟨j, h1, h2, h3⟩ | ⟨h2, h3⟩
  · exact Or.inl ⟨j, by omega, h2, wrap_is h3, wrap_is h3⟩
  · exact Or.inr ⟨fun j hj => h2 j (by omega), wrap_is0 h3, wrap_is0 h3⟩
theorem tractor_cases (a : Int32) : (∃ j, j < 6 ∧ a = nI j ∧ c_isTractor a = some 1 ∧ m_isTractor a = some 1) ∨ (c_isTractor a = some 0 ∧ m_isTractor a = some 0) := by
  rcases rng_cases a 5 (N := 5) (by decide) with ⟨j, h1, h2, h3⟩ | ⟨-, h3⟩
  · exact Or.inl ⟨j, by omega, h2, wrap_is h3, wrap_is h3⟩
  · exact Or.inr ⟨wrap_is0 h3, wrap_is0 h3⟩
theorem day_cases (a : Int32) : (∃ j, j < 70 ∧ a = nI j ∧ c_isDay a = some 1 ∧ m_isDay a = some 1) ∨ (c_isDay a = some 0 ∧ m_isDay a = some 0) := by
  rcases rng_cases a 69 (N := 69) (by decide) with ⟨j, h1, h2, h3⟩ | ⟨-, h3⟩
  · exact Or.inl ⟨j, by omega, h2, wrap_is h3, wrap_is h3⟩
  · exact Or.inr ⟨wrap_is0 h3, wrap_is0 h3⟩
theorem minute_cases (a : Int32) : (∃ j, j ≤ 99999 ∧ a = nI j ∧ c_isMinute a = some 1 ∧ m_in a 0 99999 = some 1) ∨ (c_isMinute a = some 0 ∧ m_in a 0 99999 = some 0) := by
  rcases rng_cases a 99999 (N := 99999) (by decide) with ⟨j, h1, h2, h3⟩ | ⟨-, h3⟩
  · exact Or.inl ⟨j, h1, h2, wrap_is h3, h3⟩
  · exact Or.inr ⟨wrap_is0 h3, h3⟩
theorem worth_cases (a : Int32) : (∃ j, j ≤ 100000 ∧ a = nI j ∧ c_in a 0 100000 = some 1 ∧ m_isWorth a = some 1) ∨ (c_in a 0 100000 = some 0 ∧ m_isWorth a = some 0) := by
  rcases rng_cases a 100000 (N := 100000) (by decide) with ⟨j, h1, h2, h3⟩ | ⟨-, h3⟩
  · exact Or.inl ⟨j, h1, h2, h3, wrap_is h3⟩
  · exact Or.inr ⟨h3, wrap_is0 h3⟩
/-- below a count -/
theorem cnt_cases (a c : Int32) {n : Nat} (hc : c = nI n) (hn : n < 2 ^ 30) : (∃ j, j < n ∧ a = nI j ∧ c_in a 0 (c - 1) = some 1) ∨ ((∀ j, j < n → a ≠ nI j) ∧ c_in a 0 (c - 1) = some 0) := by
  subst hc
  have e : (nI n - 1).toInt = (n : Int) - 1 := pk_sub_toInt (b := 1) hn (by decide)
  rcases in_cases a 0 (nI n - 1) with ⟨h1, h2, h3⟩ | ⟨h1, h2⟩
  · obtain ⟨j, hj, rfl⟩ := nI_of h1
    rw [Int32.lt_iff_toInt_lt, e, nI_toInt hj] at h2
    exact Or.inl ⟨j, by omega, rfl, h3⟩
  · refine Or.inr ⟨fun j hj q => ?_, h2⟩
    subst q
    rcases h1 with h1 | h1
    · exact nI_pos (by omega) h1
    · rw [Int32.lt_iff_toInt_lt, e, nI_toInt (by omega)] at h1
      omega
theorem trailer_cases (σ τ : St) (a : Int32) {n : Nat} (h1 : cI σ 19 = nI n) (h2 : cI τ 16 = nI n) (hn : n < 2 ^ 30) : (∃ j, j < n ∧ a = nI j ∧ c_isTrailer σ a = some 1 ∧ m_isTrailer τ a = some 1) ∨ (c_isTrailer σ a = some 0 ∧ m_isTrailer τ a = some 0) := by
  have e1 : c_isTrailer σ a = B1 (c_in a 0 (nI n - 1)) (fun v2 => B1 (bZ v2) fun v4 => some v4) := by unfold c_isTrailer; rw [h1]
  have e2 : m_isTrailer τ a = B1 (c_in a 0 (nI n - 1)) (fun v2 => B1 (bZ v2) fun v4 => some v4) := by unfold m_isTrailer; rw [h2]; rfl
  rw [e1, e2]
  rcases cnt_cases a (nI n) rfl hn with ⟨j, h3, h4, h5⟩ | ⟨-, h5⟩
  · exact Or.inl ⟨j, h3, h4, wrap_is h5, wrap_is h5⟩
  · exact Or.inr ⟨wrap_is0 h5, wrap_is0 h5⟩
/-! small things of the state -/
theorem sA_eq (σ : St) (k i : Nat) (v : Int32) : sA σ k i v = sAr σ k (upd (cA σ k) i v) := rfl
theorem sAr_sAr (σ : St) (k : Nat) (f g : Nat → Int32) : sAr (sAr σ k f) k g = sAr σ k g := by
  unfold sAr
  have e : va_up (va_up σ.2.2.1 k f) k g = va_up σ.2.2.1 k g := by
    funext j
    unfold va_up
    by_cases h : j = k <;> simp [h]
  simp only [e]
theorem sAr_comm (σ : St) {k j : Nat} (h : k ≠ j) (f g : Nat → Int32) : sAr (sAr σ k f) j g = sAr (sAr σ j g) k f := by
  unfold sAr
  have e : va_up (va_up σ.2.2.1 k f) j g = va_up (va_up σ.2.2.1 j g) k f := by
    funext i
    unfold va_up
    by_cases h1 : i = k
    · subst h1
      simp [h]
    · simp [h1]
  simp only [e]
theorem sAr_self (σ : St) (k : Nat) : sAr σ k (cA σ k) = σ := by
  unfold sAr cA
  have e : va_up σ.2.2.1 k (σ.2.2.1 k) = σ.2.2.1 := by
    funext i
    unfold va_up
    by_cases h1 : i = k <;> simp [h1]
  simp only [e]
theorem upd_at (f : Nat → Int32) (i : Nat) (v : Int32) : upd f i v i = v := by unfold upd; rw [if_pos rfl]
theorem upd_ne (f : Nat → Int32) {i j : Nat} (h : j ≠ i) (v : Int32) : upd f i v j = f j := by unfold upd; rw [if_neg h]
theorem cA_sAr_at (σ : St) (k : Nat) (f : Nat → Int32) : cA (sAr σ k f) k = f := by rw [cA_sAr, if_pos rfl]
theorem cA_sAr_ne (σ : St) {k j : Nat} (h : j ≠ k) (f : Nat → Int32) : cA (sAr σ k f) j = cA σ j := by rw [cA_sAr, if_neg h]
