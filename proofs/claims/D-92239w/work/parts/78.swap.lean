/-! plain law: swap, late -/
section Swap
variable {σ σ' τ τ' : St}
def wyS (τ τ2 : St) : Prop := cA τ2 11 = cA τ 11 ∧ cA τ2 12 = cA τ 12 ∧ cA τ2 13 = cA τ 13 ∧ cA τ2 14 = cA τ 14
/-- what a swap leaves alone -/
def FrC (σ σ' : St) : Prop := (∀ k, k ≠ 41 → k ≠ 42 → cI σ' k = cI σ k) ∧ (∀ k, cJ σ' k = cJ σ k) ∧ (∀ k, k ≠ 16 → k ≠ 17 → cA σ' k = cA σ k) ∧ ∀ k, cL σ' k = cL σ k
def FrM (τ τ' : St) : Prop := (∀ k, (k < 50 ∨ 54 < k) → cI τ' k = cI τ k) ∧ (∀ k, cJ τ' k = cJ τ k) ∧ ∀ k, k ≠ 15 → cA τ' k = cA τ k
theorem FrC.rfl : FrC σ σ := ⟨fun _ _ _ => Eq.refl _, fun _ => Eq.refl _, fun _ _ _ => Eq.refl _, fun _ => Eq.refl _⟩
theorem FrC.trans {σ2 : St} (h : FrC σ σ') (k : FrC σ' σ2) : FrC σ σ2 := ⟨fun i h1 h2 => (k.1 i h1 h2).trans (h.1 i h1 h2), fun i => (k.2.1 i).trans (h.2.1 i), fun i h1 h2 => (k.2.2.1 i h1 h2).trans (h.2.2.1 i h1 h2), fun i => (k.2.2.2 i).trans (h.2.2.2 i)⟩
theorem FrM.rfl : FrM τ τ := ⟨fun _ _ => Eq.refl _, fun _ => Eq.refl _, fun _ _ => Eq.refl _⟩
theorem FrM.trans {τ2 : St} (h : FrM τ τ') (k : FrM τ' τ2) : FrM τ τ2 := ⟨fun i h1 => (k.1 i h1).trans (h.1 i h1), fun i => (k.2.1 i).trans (h.2.1 i), fun i h1 => (k.2.2 i h1).trans (h.2.2 i h1)⟩
theorem FrC.wI (h : FrC σ σ') {k : Nat} {v : Int32} (m : k = 41 ∨ k = 42) : FrC σ (sI σ' k v) := ⟨fun i h1 h2 => by rw [cI_sI, if_neg (by omega)]; exact h.1 i h1 h2, h.2.1, h.2.2.1, h.2.2.2⟩
theorem FrM.wI (h : FrM τ τ') {k : Nat} {v : Int32} (m : 50 ≤ k ∧ k ≤ 54) : FrM τ (sI τ' k v) := ⟨fun i h1 => by rw [cI_sI, if_neg (by omega)]; exact h.1 i h1, h.2.1, h.2.2⟩
theorem FrM.w15 (h : FrM τ τ') {f : Nat → Int32} : FrM τ (sAr τ' 15 f) := ⟨h.1, h.2.1, fun i h1 => by rw [cA_sAr_ne _ h1]; exact h.2.2 i h1⟩
theorem comes3 (h : R σ τ) {a s b : Nat} (ha : a < 8) (hs : s ≤ 50000000) (hb : b < 8) : ∃ o σ' τ', c_comesTo σ (nI a) (nI s) (nI b) = some (e9 o, σ') ∧ m_comesTo τ (nI a) (nI s) (nI b) = some (eM o, τ') ∧ R σ' τ' ∧ (∀ k, cI σ' k = cI σ k) ∧ (∀ k, cI τ' k = cI τ k) ∧ (∀ k, k ≠ 15 → cA τ' k = cA τ k) ∧ (∀ t, o = some t → s ≤ t ∧ t ≤ s + 28000) ∧ (∀ τ2, wyS τ τ2 → ∃ f, m_comesTo τ2 (nI a) (nI s) (nI b) = some (eM o, sAr τ2 15 f)) ∧ FrC σ σ' ∧ FrM τ τ' := by
  obtain ⟨D, f, g, h1, h2, h3, h4, h5⟩ := h.lead ha hs
  obtain ⟨f', h6⟩ := h5 b hb
  refine ⟨D b, _, _, ?_, h6, (h.lead16 (f := f) (g := g)).come15, fun k => rfl, fun k => rfl, fun k hk => cA_sAr_ne _ hk _, fun t ht => h3 b t hb ht, fun τ2 hS => ?_, ⟨fun _ _ _ => rfl, fun _ => rfl, fun k g1 g2 => (cA_sAr_ne _ g2 _).trans (cA_sAr_ne _ g1 _), fun _ => rfl⟩, FrM.rfl.w15⟩
  · unfold c_comesTo
    rw [h1, B1_some, rdA_nI hb (by decide), B1_some, cA_sAr_ne _ (by decide), cA_sAr_at, h2 b hb]
  · obtain ⟨g1, g2, g3, g4⟩ := hS
    refine comesTo_is ?_ ha hs ?_ hb
    · have := h.ways.2
      unfold wyAllM at this ⊢
      rw [g1, g2, g3, g4]
      exact this
    · unfold wyTm at h4 ⊢
      rw [g1, g3, g4]
      exact h4
theorem mayS (h : R σ τ) {w n N q : Nat} (hw : Rw w n N q σ τ) {k : Nat} (hk : k < 6) : ∃ v : Bool, c_maySwap σ (nI k) = some (b01 v) ∧ m_maySwap τ (nI k) = some (b01 v) ∧ (v = true → ∃ t, t < n ∧ cA τ 31 k = nI t) := by
  have hn := hw.1.2.1
  obtain ⟨v, e1, e2⟩ := onWay_is h hk
  unfold c_maySwap m_maySwap
  rw [e1, e2, B1_some, B1_some]
  cases v with
  | true =>
    rw [b01_t, if_neg k10, if_neg k10, B1_some, bZ_0, B1_some]
    exact ⟨false, rfl, rfl, fun g => (by cases g)⟩
  | false =>
    rw [b01_f, if_pos k00, if_pos k00, rdA_nI hk (by decide), rdA_nI hk (by decide), B1_some, B1_some, h.eq.A 30 31 (by decide)]
    rcases (hw.2.2.2.2.2.2.2.1.1 k hk).2.2 with g | ⟨t, ht, g, -⟩
    · rw [g, if_pos rfl, if_pos k9l, B1_some, bZ_0, B1_some]
      exact ⟨false, rfl, rfl, fun g => (by cases g)⟩
    · rw [g, if_neg (nI_n9 (by omega)), if_neg (nI_pos (by omega)), B1_some, bZ_1, B1_some]
      exact ⟨true, rfl, rfl, fun _ => ⟨t, ht, rfl⟩⟩
theorem jmax_nI {a b : Nat} (ha : a < 2 ^ 31) (hb : b < 2 ^ 31) : j_max (nI a) (nI b) = some (nI (max a b)) := by
  rw [j_max_is]
  by_cases g : a < b
  · rw [if_pos (nI_lt g hb), Nat.max_eq_right (by omega)]
  · rw [if_neg (Int32.not_lt.mpr (nI_le (by omega) ha)), Nat.max_eq_left (by omega)]
theorem mmax_nI {a b : Nat} (ha : a < 2 ^ 31) (hb : b < 2 ^ 31) : (if nI a ≤ nI b then (some (nI b) : Option Int32) else some (nI a)) = some (nI (max a b)) := by
  by_cases g : a ≤ b
  · rw [if_pos (nI_le g hb), Nat.max_eq_right g]
  · rw [if_neg (nI_ge (by omega) ha), Nat.max_eq_left (by omega)]
/-- both come to a yard -/
theorem sw_go (h : R σ τ) {k l y : Nat} (hk : k < 6) (hl : l < 6) (hy : y < 8) : ∃ o1 o2 σ2 τ2, R σ2 τ2 ∧ (∀ j, cI σ2 j = cI σ j) ∧ (∀ j, cI τ2 j = cI τ j) ∧ (∀ j, j ≠ 15 → cA τ2 j = cA τ j) ∧ (∀ t, o1 = some t → t ≤ 128000) ∧ (∀ t, o2 = some t → t ≤ 128000) ∧
    (∀ {γ : Type} (F : Int32 → Int32 → St → Option γ), (B1 (rdA 6 σ 28 (nI k)) fun v6 => B2 (c_comesTo σ v6 (cI σ 11) (nI y)) fun v9 σ10 => B1 (rdA 6 σ10 28 (nI l)) fun v11 => B2 (c_comesTo σ10 v11 (cI σ10 11) (nI y)) fun v14 σ15 => F v9 v14 σ15) = F (e9 o1) (e9 o2) σ2) ∧
    (∀ {γ : Type} (F : Int32 → Int32 → St → Option γ), (B1 (rdA 6 τ 29 (nI k)) fun v6 => B2 (m_comesTo τ v6 (cI τ 5) (nI y)) fun v9 σ10 => B1 (rdA 6 σ10 29 (nI l)) fun v11 => B2 (m_comesTo σ10 v11 (cI σ10 5) (nI y)) fun v14 σ15 => F v9 v14 σ15) = F (eM o1) (eM o2) τ2) ∧ FrC σ σ2 ∧ FrM τ τ2 := by
  obtain ⟨w, n, N, q, hw⟩ := h.rw
  have hww := hw.1.1
  obtain ⟨y1, hy1, ey1⟩ := (hw.2.2.2.2.2.2.2.1.1 k hk).1
  obtain ⟨o1, σ1, τ1, a1, a2, a3, a4, a5, a6, a7, -, aF, aG⟩ := comes3 h hy1 (s := w) (by omega) hy
  obtain ⟨w', n', N', q', hw'⟩ := a3.rw
  obtain ⟨y2, hy2, ey2⟩ := (hw'.2.2.2.2.2.2.2.1.1 l hl).1
  obtain ⟨o2, σ2, τ2, b1, b2, b3, b4, b5, b6, b7, -, bF, bG⟩ := comes3 a3 hy2 (s := w) (by omega) hy
  have c11 : cI σ 11 = nI w := (h.eq.I 11 5 (by decide)).trans hw.m5
  have e1 : cA σ 28 k = nI y1 := by rw [h.eq.A 28 29 (by decide)]; exact ey1
  have e2 : cA σ1 28 l = nI y2 := by rw [a3.eq.A 28 29 (by decide)]; exact ey2
  refine ⟨o1, o2, σ2, τ2, b3, fun j => (b4 j).trans (a4 j), fun j => (b5 j).trans (a5 j), fun j hj => (b6 j hj).trans (a6 j hj), fun t ht => by have := (a7 t ht).2; omega, fun t ht => by have := (b7 t ht).2; omega, fun F => ?_, fun F => ?_, aF.trans bF, aG.trans bG⟩
  · rw [rdA_nI hk (by decide), B1_some, c11, e1, a1, B2_some, rdA_nI hl (by decide), B1_some, a4, c11, e2, b1, B2_some]
  · rw [rdA_nI hk (by decide), B1_some, hw.m5, ey1, a2, B2_some, rdA_nI hl (by decide), B1_some, a5, hw.m5, ey2, b2, B2_some]
/-- both come home -/
theorem sw_home (h : R σ τ) {y s z1 z2 : Nat} (hy : y < 8) (hs : s ≤ 140000) (h1 : z1 < 8) (h2 : z2 < 8) : ∃ o1 o2 σ2 τ2, R σ2 τ2 ∧ (∀ j, cI σ2 j = cI σ j) ∧ (∀ j, j ≠ 52 → cI τ2 j = cI τ j) ∧ cI τ2 52 = eM o1 ∧ (∀ t, o1 = some t → t ≤ 168000) ∧ (∀ t, o2 = some t → t ≤ 168000) ∧
    (∀ {γ : Type} (F : Int32 → Int32 → St → Option γ), (B2 (c_homeAt σ (nI y) (nI s) (nI z1)) fun v22 σ23 => B2 (c_homeAt σ23 (nI y) (nI s) (nI z2)) fun v25 σ26 => F v22 v25 σ26) = F (e9 o1) (e9 o2) σ2) ∧
    (∀ {γ : Type} (F : Int32 → St → Option γ), (B2 (m_comesTo τ (nI y) (nI s) (nI z1)) fun v14 σ15 => B2 (m_comesTo (sI σ15 52 v14) (nI y) (nI s) (nI z2)) fun v17 σ18 => F v17 σ18) = F (eM o2) τ2) ∧ FrC σ σ2 ∧ FrM τ τ2 := by
  obtain ⟨o1, σ1, τ1, a1, a2, a3, a4, a5, a6, a7, -, aF, aG⟩ := comes3 h hy (s := s) (by omega) h1
  have a3' : R σ1 (sI τ1 52 (eM o1)) := a3.scr ScC.rfl (ScM.rfl.wI (by decide))
  obtain ⟨o2, σ2, τ2, b1, b2, b3, b4, b5, b6, b7, -, bF, bG⟩ := comes3 a3' hy (s := s) (by omega) h2
  refine ⟨o1, o2, σ2, τ2, b3, fun j => (b4 j).trans (a4 j), fun j hj => ?_, ?_, fun t ht => by have := (a7 t ht).2; omega, fun t ht => by have := (b7 t ht).2; omega, fun F => ?_, fun F => ?_, aF.trans bF, (aG.wI (by omega)).trans bG⟩
  · rw [b5, cI_sI, if_neg hj, a5]
  · rw [b5]
    rfl
  · unfold c_homeAt
    rw [a1, B2_some, B2_some, b1, B2_some, B2_some]
  · rw [a2, B2_some, b2, B2_some]
def bo (o1 o2 : Option Nat) : Bool := o1.isSome && o2.isSome
/-- the end of the reference's attempt -/
theorem sw_tail (τ : St) {o1 o2 : Option Nat} (hb1 : ∀ t, o1 = some t → t ≤ 168000) (hb2 : ∀ t, o2 = some t → t ≤ 168000) (h52 : cI τ 52 = eM o1) : ∃ x z, (∀ a b, o1 = some a → o2 = some b → x = nI (max a b) ∧ z = nI a + nI b) ∧
    (B1 ((if (cI (sI τ 53 (eM o2)) 52) ≤ (cI (sI τ 53 (eM o2)) 53) then (some (cI (sI τ 53 (eM o2)) 53)) else (some (cI (sI τ 53 (eM o2)) 52))) : Option (Int32)) fun x20 =>
      B1 ((if 100000000 ≤ (cI (sI (sI (sI τ 53 (eM o2)) 50 x20) 51 ((cI (sI (sI τ 53 (eM o2)) 50 x20) 52) + (cI (sI (sI τ 53 (eM o2)) 50 x20) 53))) 50) then (some 0) else (some 1)) : Option (Int32)) fun x22 =>
      B1 (bZ x22) fun v24 => some (v24, sI (sI (sI τ 53 (eM o2)) 50 x20) 51 ((cI (sI (sI τ 53 (eM o2)) 50 x20) 52) + (cI (sI (sI τ 53 (eM o2)) 50 x20) 53)))) = some (b01 (bo o1 o2), sI (sI (sI τ 53 (eM o2)) 50 x) 51 z) := by
  have e52 : cI (sI τ 53 (eM o2)) 52 = eM o1 := h52
  have e53 : cI (sI τ 53 (eM o2)) 53 = eM o2 := rfl
  have e50 : ∀ x z, cI (sI (sI (sI τ 53 (eM o2)) 50 x) 51 z) 50 = x := fun x z => rfl
  rw [e52, e53]
  have big : (100000000 : Int32) ≤ 100000000 := Int32.le_refl _
  cases o1 with
  | none =>
    refine ⟨100000000, eM none + eM o2, fun a b g => (by cases g), ?_⟩
    have hx : ((if eM none ≤ eM o2 then some (eM o2) else some (eM none)) : Option Int32) = some 100000000 := by
      cases o2 with
      | none => rw [if_pos (Int32.le_refl _)]; rfl
      | some b =>
        have := hb2 b rfl
        rw [if_neg (show ¬ eM none ≤ eM (some b) from (nI_ge (by omega) (by decide) : ¬ nI 100000000 ≤ nI b))]; rfl
    rw [hx, B1_some, e50, if_pos big, B1_some, bZ_0, B1_some, show cI (sI (sI τ 53 (eM o2)) 50 100000000) 52 = eM none from h52]
    rfl
  | some a =>
    have ha := hb1 a rfl
    cases o2 with
    | none =>
      refine ⟨100000000, nI a + eM none, fun a b g g2 => (by cases g2), ?_⟩
      rw [if_pos (show eM (some a) ≤ eM none from (nI_le (by omega) (by decide) : nI a ≤ nI 100000000)), B1_some, e50, if_pos (show (100000000 : Int32) ≤ eM none from big), B1_some, bZ_0, B1_some, show cI (sI (sI τ 53 (eM none)) 50 (eM none)) 52 = nI a from h52]
      rfl
    | some b =>
      have hb := hb2 b rfl
      refine ⟨nI (max a b), nI a + nI b, fun a' b' g g' => (by cases g; cases g'; exact ⟨rfl, rfl⟩), ?_⟩
      rw [show eM (some a) = nI a from rfl, show eM (some b) = nI b from rfl, mmax_nI (by omega) (by omega), B1_some]
      have e50' : ∀ x z, cI (sI (sI (sI τ 53 (nI b)) 50 x) 51 z) 50 = x := fun x z => rfl
      rw [e50', if_neg (show ¬ (100000000 : Int32) ≤ nI (max a b) from nI_ge (b := 100000000) (by omega) (by decide)), B1_some, bZ_1, B1_some]
      rw [show cI (sI (sI τ 53 (nI b)) 50 (nI (max a b))) 52 = nI a from h52]
      rfl

def SwI (σ τ : St) (x3 b s : Int32) : Prop := R σ τ ∧ cI σ 41 = b ∧ (b = -9 ∨ ∃ y, y < 8 ∧ b = nI y ∧ cI σ 42 = cI τ 54 ∧ x3 = s ∧ isN (cI τ 54) 168000)
theorem sw_step {k l z1 z2 y : Nat} (hk : k < 6) (hl : l < 6) (h1 : z1 < 8) (h2 : z2 < 8) (hy : y < 8) {x3 b s : Int32} (hI : SwI σ τ x3 b s) : Sim (c_laySwap_L1 (nI k) (nI l) (nI z1) (nI z2) σ x3 (nI y)) (m_bestSwap_L1 (nI k) (nI l) (nI z1) (nI z2) τ b s (nI y)) (fun p p' => ∃ σ' τ' x3' b' s', p = Sum.inl (σ', x3', nI (y + 1)) ∧ p' = Sum.inl (τ', b', s', nI (y + 1)) ∧ SwI σ' τ' x3' b' s' ∧ FrC σ σ' ∧ FrM τ τ') := by
  obtain ⟨hR, h41, hb⟩ := hI
  obtain ⟨o1, o2, σ2, τ2, a1, a2, a3, -, a4, a5, a6, a7, aF, aG⟩ := sw_go hR hk hl hy
  unfold c_laySwap_L1 m_bestSwap_L1 m_swapsAt
  rw [if_neg (ge8 hy), if_neg (ge8 hy), a6, a7]
  have stay : ∀ {σ3 τ3 : St}, R σ3 τ3 → (∀ j, cI σ3 j = cI σ j) → cI τ3 54 = cI τ 54 → SwI σ3 τ3 x3 b s := fun hR3 c1 c2 => by
    refine ⟨hR3, by rw [c1]; exact h41, ?_⟩
    rcases hb with g | ⟨y', g1, g2, g3, g4, g5⟩
    · exact Or.inl g
    · exact Or.inr ⟨y', g1, g2, by rw [c1, c2]; exact g3, g4, by rw [c2]; exact g5⟩
  cases o1 with
  | none =>
    rw [if_pos (show e9 none = -9 from rfl), if_pos (show eM none = 100000000 from rfl), B2_some, B2_some, if_pos k00, B3_some, nI_1]
    exact ⟨_, _, rfl, rfl, _, _, _, _, _, rfl, rfl, stay a1 a2 (a3 _), aF, aG⟩
  | some u1 =>
    have hu1 := a4 u1 rfl
    cases o2 with
    | none =>
      rw [if_neg (show ¬ e9 (some u1) = -9 from nI_n9 (by omega)), if_pos (show e9 none = -9 from rfl), if_neg (eM_ne (by omega)), if_pos (show eM none = 100000000 from rfl), B2_some, B2_some, if_pos k00, B3_some, nI_1]
      exact ⟨_, _, rfl, rfl, _, _, _, _, _, rfl, rfl, stay a1 a2 (a3 _), aF, aG⟩
    | some u2 =>
      have hu2 := a5 u2 rfl
      have hz : eM (some u1) + 0 = nI u1 := Int32.add_zero _
      obtain ⟨o3, o4, σ4, τ4, c1, c2, c3, c4, c5, c6, c7, c8, cF, cG⟩ := sw_home a1 hy (s := max u1 u2 + 10) (by omega) h1 h2
      obtain ⟨x, z, d1, d2⟩ := sw_tail τ4 c5 c6 c4
      rw [if_neg (show ¬ e9 (some u1) = -9 from nI_n9 (by omega)), if_neg (show ¬ e9 (some u2) = -9 from nI_n9 (by omega)), if_neg (eM_ne (by omega)), if_neg (eM_ne (by omega)), hz, show e9 (some u1) = nI u1 from rfl, show e9 (some u2) = nI u2 from rfl, show eM (some u2) = nI u2 from rfl, jmax_nI (by omega) (by omega), mmax_nI (by omega) (by omega), B1_some, B1_some, show nI (max u1 u2) + 10 = nI (max u1 u2 + 10) from nI_add _ 10, c7, c8, d2, B2_some]
      have hR5 : R σ4 (sI (sI (sI τ4 53 (eM o4)) 50 x) 51 z) := c1.scr ScC.rfl (((ScM.rfl.wI (by decide)).wI (by decide)).wI (by decide))
      have hs5 : SwI σ4 (sI (sI (sI τ4 53 (eM o4)) 50 x) 51 z) x3 b s := stay hR5 (fun j => (c2 j).trans (a2 j)) ((c3 54 (by decide)).trans (a3 54))
      have fC : FrC σ σ4 := aF.trans cF
      have fM : FrM τ (sI (sI (sI τ4 53 (eM o4)) 50 x) 51 z) := (((aG.trans cG).wI (by omega)).wI (by omega)).wI (by omega)
      cases o3 with
      | none =>
        rw [j_max_is, B1_some, if_pos (show e9 none = -9 from rfl), B1_some, if_pos k00, B2_some, show b01 (bo none o4) = 0 from rfl, if_pos k00, B3_some, nI_1]
        exact ⟨_, _, rfl, rfl, _, _, _, _, _, rfl, rfl, hs5, fC, fM⟩
      | some a =>
        have ha := c5 a rfl
        cases o4 with
        | none =>
          rw [j_max_is, B1_some, if_neg (show ¬ e9 (some a) = -9 from nI_n9 (by omega)), if_pos (show e9 none = -9 from rfl), B1_some, if_pos k00, B2_some, show b01 (bo (some a) none) = 0 from rfl, if_pos k00, B3_some, nI_1]
          exact ⟨_, _, rfl, rfl, _, _, _, _, _, rfl, rfl, hs5, fC, fM⟩
        | some c =>
          have hc := c6 c rfl
          obtain ⟨rfl, rfl⟩ := d1 a c rfl rfl
          have e50 : cI (sI (sI (sI τ4 53 (eM (some c))) 50 (nI (max a c))) 51 (nI a + nI c)) 50 = nI (max a c) := rfl
          have e51 : cI (sI (sI (sI τ4 53 (eM (some c))) 50 (nI (max a c))) 51 (nI a + nI c)) 51 = nI a + nI c := rfl
          have e54 : cI (sI (sI (sI τ4 53 (eM (some c))) 50 (nI (max a c))) 51 (nI a + nI c)) 54 = cI τ 54 := (c3 54 (by decide)).trans (a3 54)
          have e41 : cI σ4 41 = b := by rw [c2, a2]; exact h41
          have e42 : cI σ4 42 = cI σ 42 := by rw [c2, a2]
          rw [if_neg (show ¬ e9 (some a) = -9 from nI_n9 (by omega)), if_neg (show ¬ e9 (some c) = -9 from nI_n9 (by omega)), show e9 (some a) = nI a from rfl, show e9 (some c) = nI c from rfl, jmax_nI (by omega) (by omega), B1_some, B1_some, if_neg k10, show b01 (bo (some a) (some c)) = 1 from rfl, if_neg k10, e41, e42, e54, e50, e51]
          unfold c_laySwap_K31 m_bestSwap_K15
          generalize sI (sI (sI τ4 53 (eM (some c))) 50 (nI (max a c))) 51 (nI a + nI c) = τ5 at *
          have take : SwI (sI (sI σ4 41 (nI y)) 42 (nI (max a c))) (sI τ5 54 (cI τ5 50)) (nI a + nI c) (nI y) (cI (sI τ5 54 (cI τ5 50)) 51) := by
            refine ⟨hR5.scr ((ScC.rfl.wI (by decide)).wI (by decide)) (ScM.rfl.wI (by decide)), rfl, Or.inr ⟨y, hy, rfl, ?_, ?_, max a c, by omega, e50⟩⟩
            · show nI (max a c) = cI τ5 50
              rw [e50]
            · show nI a + nI c = cI τ5 51
              rw [e51]
          rcases hb with rfl | ⟨y', g1, rfl, g3, rfl, -⟩
          · rw [if_pos rfl, if_pos k9l, B2_some, B3_some, nI_1]
            exact ⟨_, _, rfl, rfl, _, _, _, _, _, rfl, rfl, take, (fC.wI (by omega)).wI (by omega), fM.wI (by omega)⟩
          · rw [if_neg (nI_n9 (by omega)), if_neg (nI_pos (by omega)), g3]
            by_cases q1 : nI (max a c) < cI τ 54
            · rw [if_pos q1, if_pos q1, B2_some, B3_some, nI_1]
              exact ⟨_, _, rfl, rfl, _, _, _, _, _, rfl, rfl, take, (fC.wI (by omega)).wI (by omega), fM.wI (by omega)⟩
            · rw [if_neg q1, if_neg q1]
              by_cases q2 : nI (max a c) = cI τ 54
              · rw [if_pos q2, if_pos q2]
                by_cases q3 : x3 ≤ nI a + nI c
                · rw [if_pos q3, if_pos q3, B2_some, B3_some, nI_1]
                  exact ⟨_, _, rfl, rfl, _, _, _, _, _, rfl, rfl, hs5, fC, fM⟩
                · rw [if_neg q3, if_neg q3, B2_some, B3_some, nI_1]
                  exact ⟨_, _, rfl, rfl, _, _, _, _, _, rfl, rfl, take, (fC.wI (by omega)).wI (by omega), fM.wI (by omega)⟩
              · rw [if_neg q2, if_neg q2, B2_some, B3_some, nI_1]
                exact ⟨_, _, rfl, rfl, _, _, _, _, _, rfl, rfl, hs5, fC, fM⟩
/-- the best swap on both sides -/
theorem lay_both (h : R σ τ) {k l z1 z2 : Nat} (hk : k < 6) (hl : l < 6) (h1 : z1 < 8) (h2 : z2 < 8) : ∃ σ' τ' b, c_laySwap σ (nI k) (nI l) (nI z1) (nI z2) = some (b01 (decide (b ≠ -9)), σ') ∧ m_bestSwap τ (nI k) (nI l) (nI z1) (nI z2) = some (b, τ') ∧ cI σ' 41 = b ∧ (b = -9 ∨ ∃ y, y < 8 ∧ b = nI y ∧ cI σ' 42 = cI τ' 54 ∧ isN (cI τ' 54) 168000) ∧ R σ' τ' ∧ FrC σ σ' ∧ FrM τ τ' := by
  have key : Sim (lq3 (c_laySwap_L1 (nI k) (nI l) (nI z1) (nI z2)) (sI σ 41 (-9)) 0 0) (lq4 (m_bestSwap_L1 (nI k) (nI l) (nI z1) (nI z2)) τ (-9) 0 0) (fun s p => R s p.1 ∧ cI s 41 = p.2 ∧ (p.2 = -9 ∨ ∃ y, y < 8 ∧ p.2 = nI y ∧ cI s 42 = cI p.1 54 ∧ isN (cI p.1 54) 168000) ∧ FrC σ s ∧ FrM τ p.1) := by
    unfold lq3 lq4
    refine lp_sim 8 (fun i (p : St × Int32 × Int32) (p' : St × Int32 × Int32 × Int32) => i ≤ 8 ∧ p.2.2 = nI i ∧ p'.2.2.2 = nI i ∧ SwI p.1 p'.1 p.2.1 p'.2.1 p'.2.2.1 ∧ FrC σ p.1 ∧ FrM τ p'.1) _ ?_ (i := 0) ⟨by omega, nI_0.symm, nI_0.symm, ⟨h.scr (ScC.rfl.wI (by decide)) ScM.rfl, rfl, Or.inl rfl⟩, FrC.rfl.wI (by omega), FrM.rfl⟩
    rintro i ⟨σ1, x3, y⟩ ⟨τ1, b1, s1, y'⟩ ⟨hi, hy, hy', hI, hC, hM⟩
    dsimp only at hy hy' hI hC hM
    subst hy hy'
    by_cases h8 : i = 8
    · subst h8
      refine Or.inr ⟨σ1, (τ1, b1), ?_, ?_, hI.1, hI.2.1, ?_, hC, hM⟩
      · show c_laySwap_L1 _ _ _ _ σ1 x3 (nI 8) = _
        unfold c_laySwap_L1
        rw [if_pos (by decide)]
      · show m_bestSwap_L1 _ _ _ _ τ1 b1 s1 (nI 8) = _
        unfold m_bestSwap_L1
        rw [if_pos (by decide)]
      · rcases hI.2.2 with g | ⟨y, g1, g2, g3, -, g5⟩
        · exact Or.inl g
        · exact Or.inr ⟨y, g1, g2, g3, g5⟩
    · obtain ⟨p, p', g1, g2, σ', τ', x3', b', s', rfl, rfl, g3, g4, g5⟩ := sw_step hk hl h1 h2 (show i < 8 by omega) hI
      exact Or.inl ⟨by omega, _, _, g1, g2, by omega, rfl, rfl, g3, hC.trans g4, hM.trans g5⟩
  obtain ⟨s, ⟨t, b⟩, k1, k2, k3, k4, k5, k6, k7⟩ := key
  dsimp only at k3 k4 k5 k6 k7
  refine ⟨s, t, b, ?_, ?_, k4, k5, k3, k6, k7⟩
  · unfold c_laySwap
    rw [k1, B1_some, k4]
    by_cases q : b = -9
    · rw [if_pos q, B1_some, bZ_0, B1_some, decide_eq_false (fun g => g q)]
      rfl
    · rw [if_neg q, B1_some, bZ_1, B1_some, decide_eq_true q]
      rfl
  · unfold m_bestSwap
    rw [k2, B2_some]
theorem s_swap (h : R σ τ) (a b c d : Int32) : Sim (c_swap σ a b c d) (m_swap τ a b c d) Rq := by
  obtain ⟨w, n, N, q, hw⟩ := h.rw
  unfold c_swap m_swap
  rcases tractor_cases a with ⟨k, hk, rfl, e1, e2⟩ | ⟨e1, e2⟩
  · rw [e1, e2, B1_some, B1_some, if_neg k10, if_neg k10]
    rcases tractor_cases b with ⟨l, hl, rfl, e3, e4⟩ | ⟨e3, e4⟩
    · rw [e3, e4, B1_some, B1_some, if_neg k10, if_neg k10]
      by_cases hkl : nI k = nI l
      · rw [if_pos hkl, if_pos hkl]
        exact h.same _
      · rw [if_neg hkl, if_neg hkl]
        rcases yard_cases c with ⟨z1, h1, rfl, e5, e6⟩ | ⟨-, e5, e6⟩
        · rw [e5, e6, B1_some, B1_some, if_neg k10, if_neg k10]
          rcases yard_cases d with ⟨z2, h2, rfl, e7, e8⟩ | ⟨-, e7, e8⟩
          · rw [e7, e8, B1_some, B1_some, if_neg k10, if_neg k10]
            obtain ⟨v1, f1, f2, -⟩ := mayS h hw hk
            obtain ⟨v2, f3, f4, -⟩ := mayS h hw hl
            rw [f1, f2, B1_some, B1_some]
            cases v1 with
            | false =>
              rw [b01_f, if_pos k00, if_pos k00]
              exact h.same _
            | true =>
              rw [b01_t, if_neg k10, if_neg k10, f3, f4, B1_some, B1_some]
              cases v2 with
              | false =>
                rw [b01_f, if_pos k00, if_pos k00]
                exact h.same _
              | true =>
                rw [b01_t, if_neg k10, if_neg k10]
                obtain ⟨s, t, b, k1, k2, k4, k5, k3, -, -⟩ := lay_both h hk hl h1 h2
                rw [k1, k2, B2_some, B2_some]
                rcases k5 with rfl | ⟨y, hy, rfl, k6, -⟩
                · rw [show b01 (decide ((-9 : Int32) ≠ -9)) = 0 from rfl, if_pos k00, if_neg k90]
                  exact found_meets4 k3 (f := 1) (by decide) rfl
                · rw [decide_eq_true (show nI y ≠ -9 from nI_n9 (by omega)), b01_t, if_neg k10, if_pos (nI_pos' (by omega)), k4, k6]
                  exact ⟨_, _, rfl, rfl, rfl, k3.say rfl⟩
          · rw [e7, e8, B1_some, B1_some, if_pos k00, if_pos k00]
            exact h.same _
        · rw [e5, e6, B1_some, B1_some, if_pos k00, if_pos k00]
          exact h.same _
    · rw [e3, e4, B1_some, B1_some, if_pos k00, if_pos k00]
      exact h.same _
  · rw [e1, e2, B1_some, B1_some, if_pos k00, if_pos k00]
    exact h.same _
theorem late_x {t g : Nat} (ht : t < 2 ^ 30) (hg : g < 2 ^ 30) : ∃ v : Int32, j_max 0 (nI t - nI g) = some v ∧ ((if nI t ≤ nI g then some 0 else some ((nI t - nI g).toInt64)) : Option Int64) = some v.toInt64 := by
  rw [j_max_is]
  by_cases q : t ≤ g
  · rw [if_pos (nI_le q (by omega))]
    have e : (nI t - nI g).toInt = (t : Int) - g := pk_sub_toInt ht hg
    refine ⟨0, ?_, rfl⟩
    rw [if_neg (fun q2 => by rw [i32_lt, e] at q2; have e0 : (0 : Int32).toInt = 0 := by decide
                             omega)]
  · rw [if_neg (nI_ge (by omega) (by omega))]
    refine ⟨nI t - nI g, ?_, rfl⟩
    rw [show nI t - nI g = nI (t - g) from pk_sub (by omega), if_pos (show (0 : Int32) < nI (t - g) from nI_lt (a := 0) (show 0 < t - g by omega) (by omega))]
theorem s_late (h : R σ τ) (a b c d e f : Int32) : Sim (c_late σ a b c d e f) (m_late τ a b c d e f) Rq := by
  obtain ⟨w, n, N, q, hw⟩ := h.rw
  unfold c_late m_late
  rcases tractor_cases a with ⟨k, hk, rfl, e1, e2⟩ | ⟨e1, e2⟩
  · rw [e1, e2, B1_some, B1_some, if_neg k10, if_neg k10]
    rcases tractor_cases b with ⟨l, hl, rfl, e3, e4⟩ | ⟨e3, e4⟩
    · rw [e3, e4, B1_some, B1_some, if_neg k10, if_neg k10]
      by_cases hkl : nI k = nI l
      · rw [if_pos hkl, if_pos hkl]
        exact h.same _
      · rw [if_neg hkl, if_neg hkl]
        rcases yard_cases c with ⟨z, h1, rfl, e5, e6⟩ | ⟨-, e5, e6⟩
        · rw [e5, e6, B1_some, B1_some, if_neg k10, if_neg k10]
          rcases yard_cases d with ⟨y, hy, rfl, e7, e8⟩ | ⟨-, e7, e8⟩
          · rw [e7, e8, B1_some, B1_some, if_neg k10, if_neg k10, m_in_c]
            rcases rng_cases e 2000 (N := 2000) (by decide) with ⟨d, hd, rfl, e9'⟩ | ⟨-, e9'⟩
            · rw [e9', B1_some, B1_some, if_neg k10, if_neg k10]
              rcases minute_cases f with ⟨g, hg, rfl, e10, e11⟩ | ⟨e10, e11⟩
              · rw [e10, e11, B1_some, B1_some, if_neg k10, if_neg k10]
                obtain ⟨v1, f1, f2, f5⟩ := mayS h hw hk
                obtain ⟨v2, f3, f4, f6⟩ := mayS h hw hl
                rw [f1, f2, B1_some, B1_some]
                cases v1 with
                | false =>
                  rw [b01_f, if_pos k00, if_pos k00]
                  exact h.same _
                | true =>
                  rw [b01_t, if_neg k10, if_neg k10, f3, f4, B1_some, B1_some]
                  cases v2 with
                  | false =>
                    rw [b01_f, if_pos k00, if_pos k00]
                    exact h.same _
                  | true =>
                    rw [b01_t, if_neg k10, if_neg k10]
                    obtain ⟨t1, lt1, ht1⟩ := f5 rfl
                    obtain ⟨t2, lt2, ht2⟩ := f6 rfl
                    obtain ⟨o1, o2, σ2, τ2, a1, a2, a3, aA, a4, a5, a6, a7, -, -⟩ := sw_go h hk hl hy
                    unfold m_swapsAt
                    rw [a6, a7]
                    cases o1 with
                    | none =>
                      rw [if_pos (show e9 none = -9 from rfl), if_pos (show eM none = 100000000 from rfl), B2_some, if_pos k00]
                      exact found_meets2 a1 (f := 1) (by decide) rfl
                    | some u1 =>
                      have hu1 := a4 u1 rfl
                      cases o2 with
                      | none =>
                        rw [if_neg (show ¬ e9 (some u1) = -9 from nI_n9 (by omega)), if_pos (show e9 none = -9 from rfl), if_neg (eM_ne (by omega)), if_pos (show eM none = 100000000 from rfl), B2_some, if_pos k00]
                        exact found_meets2 a1 (f := 1) (by decide) rfl
                      | some u2 =>
                        have hu2 := a5 u2 rfl
                        have hz1 : e9 (some u1) + nI d = nI (u1 + d) := nI_add _ _
                        have hz2 : eM (some u1) + nI d = nI (u1 + d) := nI_add _ _
                        obtain ⟨o3, σ3, τ3, b1, b2, b3, b4, b5, b6, b7, b8, -, -⟩ := comes3 a1 hy (s := max (u1 + d) u2 + 10) (by omega) h1
                        obtain ⟨f9, b9⟩ := b8 (sI τ3 52 (eM o3)) ⟨b6 11 (by decide), b6 12 (by decide), b6 13 (by decide), b6 14 (by decide)⟩
                        have c5 : ∀ t, o3 = some t → t ≤ 168000 := fun t ht => by have := (b7 t ht).2; omega
                        obtain ⟨x, z9, d1, d2⟩ := sw_tail (sAr (sI τ3 52 (eM o3)) 15 f9) c5 c5 rfl
                        rw [if_neg (show ¬ e9 (some u1) = -9 from nI_n9 (by omega)), if_neg (show ¬ e9 (some u2) = -9 from nI_n9 (by omega)), if_neg (eM_ne (by omega)), if_neg (eM_ne (by omega)), hz1, hz2, show e9 (some u2) = nI u2 from rfl, show eM (some u2) = nI u2 from rfl, jmax_nI (by omega) (by omega), mmax_nI (by omega) (by omega), B1_some, B1_some, show nI (max (u1 + d) u2) + 10 = nI (max (u1 + d) u2 + 10) from nI_add _ 10]
                        unfold c_homeAt
                        rw [b1, b2, B2_some, B2_some, B2_some, b9, B2_some, d2, B2_some]
                        have hR5 : R σ3 (sI (sI (sI (sAr (sI τ3 52 (eM o3)) 15 f9) 53 (eM o3)) 50 x) 51 z9) := b3.scr ScC.rfl (((((ScM.rfl.wI (by decide)).wAr (by decide)).wI (by decide)).wI (by decide)).wI (by decide))
                        have g53 : cI (sI (sI (sI (sAr (sI τ3 52 (eM o3)) 15 f9) 53 (eM o3)) 50 x) 51 z9) 53 = eM o3 := rfl
                        have g31 : cA (sI (sI (sI (sAr (sI τ3 52 (eM o3)) 15 f9) 53 (eM o3)) 50 x) 51 z9) 31 = cA τ 31 := ((cA_sAr_ne _ (by decide) _).trans (b6 31 (by decide))).trans (aA 31 (by decide))
                        generalize sI (sI (sI (sAr (sI τ3 52 (eM o3)) 15 f9) 53 (eM o3)) 50 x) 51 z9 = τ5 at *
                        cases o3 with
                        | none =>
                          rw [if_pos (show e9 none = -9 from rfl), show b01 (bo none none) = 0 from rfl, if_pos k00]
                          exact found_meets2 hR5 (f := 1) (by decide) rfl
                        | some t =>
                          have ht := c5 t rfl
                          obtain ⟨w', n', N', q', hw'⟩ := hR5.rw
                          have hn' := hw'.1.2.1
                          have tr : ∀ {k t : Nat}, k < 6 → t < n → cA τ 31 k = nI t → ∃ t', t' < n' ∧ cA τ5 31 k = nI t' ∧ cA σ3 30 k = nI t' := fun {k t} hk htn hkt => by
                            rcases (hw'.2.2.2.2.2.2.2.1.1 k hk).2.2 with g | ⟨t', p1, p2, -⟩
                            · rw [g31, hkt] at g
                              exact absurd g (nI_n9 (by have := hw.1.2.1; omega))
                            · exact ⟨t', p1, p2, by rw [hR5.eq.A 30 31 (by decide)]; exact p2⟩
                          obtain ⟨s1, hs1, p1, p2⟩ := tr hk lt1 ht1
                          obtain ⟨s2, hs2, p3, p4⟩ := tr hl lt2 ht2
                          obtain ⟨kd1, t11, t12, t13, t14, t15, t16, t17, t18⟩ := hw'.2.2.2.1.1 s1 hs1
                          obtain ⟨kd2, t21, t22, t23, t24, t25, t26, t27, t28⟩ := hw'.2.2.2.1.1 s2 hs2
                          have w1 : cA σ3 (120 + s1) 1 = cA τ5 21 s1 := t17 (1, 21) (by decide) (okT_lo (by decide))
                          have w2 : cA σ3 (120 + s2) 1 = cA τ5 21 s2 := t27 (1, 21) (by decide) (okT_lo (by decide))
                          obtain ⟨v, x1, x2⟩ := late_x (t := t) (g := g) (by omega) (by omega)
                          rw [if_neg (show ¬ e9 (some t) = -9 from nI_n9 (by omega)), show b01 (bo (some t) (some t)) = 1 from rfl, if_neg k10, g53, show eM (some t) = nI t from rfl, show e9 (some t) = nI t from rfl, x2, rdA_nI hk (by decide), p2, B1_some, ixD_is (by omega) (by decide) t12, B1_some, rdT_is t12 (okT_lo (by decide)), B1_some, rdA_nI hl (by decide), p4, B1_some, ixD_is (by omega) (by decide) t22, B1_some, rdT_is t22 (okT_lo (by decide)), B1_some, x1, B1_some, B1_some, w1, w2]
                          have m1 : rdA 6 τ5 31 (nI k) = some (nI s1) := by rw [rdA_nI hk (by decide), p1]
                          have m2 : rdA 6 τ5 31 (nI l) = some (nI s2) := by rw [rdA_nI hl (by decide), p3]
                          have m3 : rdA 12 τ5 21 (nI s1) = some (cA τ5 21 s1) := rdA_nI (by omega) (by decide)
                          have m4 : rdA 12 τ5 21 (nI s2) = some (cA τ5 21 s2) := rdA_nI (by omega) (by decide)
                          rw [m2, B1_some, m4, B1_some, m1, B1_some, m3, B1_some, B1_some, m4, B1_some]
                          by_cases q9 : 0 < lg_cmp (v.toInt64 * (cA τ5 21 s2).toInt64 / 1000) ((cA τ5 21 s1 + cA τ5 21 s2) / 10).toInt64
                          · rw [if_pos q9, if_pos q9]
                            exact ⟨_, _, rfl, rfl, rfl, hR5.say rfl⟩
                          · rw [if_neg q9, if_neg q9]
                            exact ⟨_, _, rfl, rfl, rfl, hR5.say rfl⟩
              · rw [e10, e11, B1_some, B1_some, if_pos k00, if_pos k00]
                exact h.same _
            · rw [e9', B1_some, B1_some, if_pos k00, if_pos k00]
              exact h.same _
          · rw [e7, e8, B1_some, B1_some, if_pos k00, if_pos k00]
            exact h.same _
        · rw [e5, e6, B1_some, B1_some, if_pos k00, if_pos k00]
          exact h.same _
    · rw [e3, e4, B1_some, B1_some, if_pos k00, if_pos k00]
      exact h.same _
  · rw [e1, e2, B1_some, B1_some, if_pos k00, if_pos k00]
    exact h.same _
end Swap
