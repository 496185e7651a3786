/-! plain law: the class' earliest minutes (the nearest one first) -/
def e9 (o : Option Nat) : Int32 := match o with
  | none => -9
  | some t => nI t
def b01 (b : Bool) : Int32 := if b = true then 1 else 0
theorem nI_n9 {t : Nat} (h : t < 2 ^ 31) : ¬ nI t = -9 := fun q => by
  have h1 := congrArg Int32.toInt q
  rw [nI_toInt h] at h1
  have h2 : (-9 : Int32).toInt = -9 := by decide
  omega
theorem ge8 {i : Nat} (h : i < 8) : ¬ (8 : Int32) ≤ nI i := nI_ge (b := 8) h (by decide)
theorem ix8 (b i : Nat) : 8 * nI b + nI i = nI (8 * b + i) := by
  show nI 8 * nI b + nI i = _
  rw [pk_mul, nI_add]
theorem sA1 (σ : St) (k : Nat) (f : Nat → Int32) (i : Nat) (v : Int32) : sA (sAr σ k f) k i v = sAr σ k (upd f i v) := by rw [sA_eq, cA_sAr_at, sAr_sAr]
theorem sA2a (σ : St) {k j : Nat} (h : k ≠ j) (f g : Nat → Int32) (i : Nat) (v : Int32) : sA (sAr (sAr σ k f) j g) k i v = sAr (sAr σ k (upd f i v)) j g := by
  rw [sA_eq, cA_sAr_ne _ h, cA_sAr_at, sAr_comm _ (Ne.symm h), sAr_sAr]
theorem sA2b (σ : St) (k j : Nat) (f g : Nat → Int32) (i : Nat) (v : Int32) : sA (sAr (sAr σ k f) j g) j i v = sAr (sAr σ k f) j (upd g i v) := by
  rw [sA_eq, cA_sAr_at, sAr_sAr]
/-- the arrays of lead: what is come to, what is settled -/
def LdS (σ : St) (D : Nat → Option Nat) (S : Nat → Bool) (σ' : St) : Prop := ∃ f g, σ' = sAr (sAr σ 16 f) 17 g ∧ (∀ y, y < 8 → f y = e9 (D y)) ∧ ∀ y, y < 8 → g y = b01 (S y)
section Lead
variable {σ σ' : St} {D D' : Nat → Option Nat} {S S' : Nat → Bool}
theorem LdS.r16 (h : LdS σ D S σ') {y : Nat} (hy : y < 8) : rdA 8 σ' 16 (nI y) = some (e9 (D y)) := by
  obtain ⟨f, g, rfl, h1, h2⟩ := h
  rw [rdA_nI hy (by decide), cA_sAr_ne _ (by decide), cA_sAr_at, h1 y hy]
theorem LdS.r17 (h : LdS σ D S σ') {y : Nat} (hy : y < 8) : rdA 8 σ' 17 (nI y) = some (b01 (S y)) := by
  obtain ⟨f, g, rfl, h1, h2⟩ := h
  rw [rdA_nI hy (by decide), cA_sAr_at, h2 y hy]
theorem LdS.keep (h : LdS σ D S σ') {k : Nat} (h16 : k ≠ 16) (h17 : k ≠ 17) : cA σ' k = cA σ k := by
  obtain ⟨f, g, rfl, -, -⟩ := h
  rw [cA_sAr_ne _ h17, cA_sAr_ne _ h16]
theorem LdS.w16 (h : LdS σ D S σ') {y : Nat} (hy : y < 8) (o : Option Nat) {v : Int32} (hv : v = e9 o) : ∃ σ2, wrA 8 σ' 16 (nI y) v = some σ2 ∧ LdS σ (fun z => if z = y then o else D z) S σ2 := by
  obtain ⟨f, g, rfl, h1, h2⟩ := h
  refine ⟨_, wrA_nI hy (by decide), upd f y v, g, sA2a σ (by decide) f g y v, fun z hz => ?_, h2⟩
  dsimp only
  by_cases hz2 : z = y
  · subst hz2
    rw [upd_at, if_pos rfl, hv]
  · rw [upd_ne _ hz2, if_neg hz2, h1 z hz]
theorem LdS.w17 (h : LdS σ D S σ') {y : Nat} (hy : y < 8) : ∃ σ2, wrA 8 σ' 17 (nI y) (vp_nar .boolean 1) = some σ2 ∧ LdS σ D (fun z => S z || z == y) σ2 := by
  obtain ⟨f, g, rfl, h1, h2⟩ := h
  refine ⟨_, wrA_nI hy (by decide), f, upd g y (vp_nar .boolean 1), sA2b σ 16 17 f g y _, h1, fun z hz => ?_⟩
  by_cases hz2 : z = y
  · subst hz2
    rw [upd_at, nr_1]
    simp [b01]
  · rw [upd_ne _ hz2, h2 z hz]
    simp [b01, hz2]
theorem LdS.congr (h : LdS σ D S σ') (hD : ∀ y, y < 8 → D y = D' y) : LdS σ D' S σ' := by
  obtain ⟨f, g, rfl, h1, h2⟩ := h
  exact ⟨f, g, rfl, fun y hy => by rw [h1 y hy, hD y hy], h2⟩
theorem lead_init {a s : Nat} (ha : a < 8) : ∃ σ4, lq2 (c_lead_L1 (nI a) (nI s)) σ 0 = some σ4 ∧ LdS σ (fun y => if y = a then some s else none) (fun _ => false) σ4 := by
  unfold lq2
  refine lp_forI 8 (fun i (q : St × Int32) => i ≤ 8 ∧ q.2 = nI i ∧ ∃ f g, q.1 = sAr (sAr σ 16 f) 17 g ∧ (∀ y, y < i → f y = e9 (if y = a then some s else none)) ∧ ∀ y, y < i → g y = 0) _ ?_ (i := 0) ⟨by omega, nI_0.symm, cA σ 16, cA σ 17, by rw [sAr_self, sAr_self], fun y hy => absurd hy (Nat.not_lt_zero y), fun y hy => absurd hy (Nat.not_lt_zero y)⟩
  rintro i ⟨σ1, x⟩ ⟨hi, hx, f, g, hσ, h1, h2⟩
  dsimp only at hx hσ
  subst hx hσ
  by_cases h8 : i = 8
  · subst h8
    refine Or.inr ⟨_, by show c_lead_L1 (nI a) (nI s) _ (nI 8) = _; unfold c_lead_L1; rw [if_pos (by decide)], f, g, rfl, h1, fun y hy => ?_⟩
    rw [h2 y hy]
    rfl
  · have hi8 : i < 8 := by omega
    refine Or.inl ⟨hi8, (sAr (sAr σ 16 (upd f i (e9 (if i = a then some s else none)))) 17 (upd g i 0), nI i + 1), ?_, by omega, nI_1 i, upd f i (e9 (if i = a then some s else none)), upd g i 0, rfl, fun y hy => ?_, fun y hy => ?_⟩
    · have e : (if nI i = nI a then (some (nI s) : Option Int32) else some (-9)) = some (e9 (if i = a then some s else none)) := by
        by_cases h : i = a
        · subst h
          rw [if_pos rfl, if_pos rfl]
          rfl
        · rw [if_neg (fun q => h ((nI_eq (by omega) (by omega)).mp q)), if_neg h]
          rfl
      show c_lead_L1 (nI a) (nI s) (sAr (sAr σ 16 f) 17 g) (nI i) = _
      unfold c_lead_L1
      rw [if_neg (ge8 hi8), e, B1_some, wrA_nI hi8 (by decide), B1_some, wrA_nI hi8 (by decide), B1_some, sA2a σ (by decide), sA2b, nr_0]
    · by_cases hy2 : y = i
      · subst hy2
        rw [upd_at]
      · rw [upd_ne _ hy2, h1 y (by omega)]
    · by_cases hy2 : y = i
      · subst hy2
        rw [upd_at]
      · rw [upd_ne _ hy2, h2 y (by omega)]
theorem lead_best {σ0 : St} (h : LdS σ0 D S σ) (hB : ∀ y t, y < 8 → D y = some t → t < 2 ^ 30) : ∃ x, lq2 (c_lead_L15 σ) (-9) 0 = some x ∧ ((x = -9 ∧ ∀ y t, y < 8 → S y = false → D y ≠ some t) ∨ ∃ b u, b < 8 ∧ x = nI b ∧ S b = false ∧ D b = some u ∧ ∀ y t, y < 8 → S y = false → D y = some t → u ≤ t) := by
  unfold lq2
  refine lp_forI 8 (fun i (q : Int32 × Int32) => i ≤ 8 ∧ q.2 = nI i ∧ ((q.1 = -9 ∧ ∀ y t, y < i → S y = false → D y ≠ some t) ∨ ∃ b u, b < 8 ∧ q.1 = nI b ∧ S b = false ∧ D b = some u ∧ ∀ y t, y < i → S y = false → D y = some t → u ≤ t)) _ ?_ (i := 0) ⟨by omega, nI_0.symm, Or.inl ⟨rfl, fun y t hy => absurd hy (Nat.not_lt_zero y)⟩⟩
  rintro i ⟨x, y⟩ ⟨hi, hy, hI⟩
  dsimp only at hy hI
  subst hy
  by_cases h8 : i = 8
  · subst h8
    exact Or.inr ⟨_, by show c_lead_L15 σ _ (nI 8) = _; unfold c_lead_L15; rw [if_pos (by decide)], hI⟩
  · have hi8 : i < 8 := by omega
    -- the new best one
    have key : ∃ x', c_lead_L15 σ x (nI i) = some (Sum.inl (x', nI i + 1)) ∧ ((x' = -9 ∧ ∀ y t, y < i + 1 → S y = false → D y ≠ some t) ∨ ∃ b u, b < 8 ∧ x' = nI b ∧ S b = false ∧ D b = some u ∧ ∀ y t, y < i + 1 → S y = false → D y = some t → u ≤ t) := by
      unfold c_lead_L15
      rw [if_neg (ge8 hi8), h.r17 hi8, B1_some]
      cases hS : S i with
      | true =>
        have e1 : b01 true = 1 := rfl
        rw [e1, if_neg (by decide), B1_some]
        refine ⟨x, rfl, ?_⟩
        rcases hI with ⟨h1, h2⟩ | ⟨b, u, h1, h2, h3, h4, h5⟩
        · exact Or.inl ⟨h1, fun y t hy hSy => h2 y t (by
            rcases Nat.lt_succ_iff_lt_or_eq.mp hy with q | q
            · exact q
            · subst q; rw [hS] at hSy; cases hSy) hSy⟩
        · exact Or.inr ⟨b, u, h1, h2, h3, h4, fun y t hy hSy => h5 y t (by
            rcases Nat.lt_succ_iff_lt_or_eq.mp hy with q | q
            · exact q
            · subst q; rw [hS] at hSy; cases hSy) hSy⟩
      | false =>
        have e1 : b01 false = 0 := rfl
        rw [e1, if_pos rfl, h.r16 hi8, B1_some]
        cases hD : D i with
        | none =>
          have e2 : e9 none = -9 := rfl
          rw [e2, if_pos rfl, B1_some]
          refine ⟨x, rfl, ?_⟩
          rcases hI with ⟨h1, h2⟩ | ⟨b, u, h1, h2, h3, h4, h5⟩
          · refine Or.inl ⟨h1, fun y t hy hSy hDy => ?_⟩
            rcases Nat.lt_succ_iff_lt_or_eq.mp hy with q | q
            · exact h2 y t q hSy hDy
            · subst q; rw [hD] at hDy; cases hDy
          · refine Or.inr ⟨b, u, h1, h2, h3, h4, fun y t hy hSy hDy => ?_⟩
            rcases Nat.lt_succ_iff_lt_or_eq.mp hy with q | q
            · exact h5 y t q hSy hDy
            · subst q; rw [hD] at hDy; cases hDy
        | some t =>
          have ht := hB i t hi8 hD
          have e2 : e9 (some t) = nI t := rfl
          rw [e2, if_neg (nI_n9 (by omega))]
          rcases hI with ⟨h1, h2⟩ | ⟨b, u, h1, h2, h3, h4, h5⟩
          · rw [if_pos h1, B1_some]
            refine ⟨nI i, rfl, Or.inr ⟨i, t, hi8, rfl, hS, hD, fun y t' hy hSy hDy => ?_⟩⟩
            rcases Nat.lt_succ_iff_lt_or_eq.mp hy with q | q
            · exact absurd hDy (h2 y t' q hSy)
            · subst q; rw [hD] at hDy; cases hDy; exact Nat.le_refl _
          · have hu := hB b u h1 h4
            have e3 : e9 (some u) = nI u := rfl
            rw [h2, if_neg (nI_n9 (by omega)), B1_some, h.r16 h1, h4, e3, B1_some]
            by_cases hc : u ≤ t
            · rw [if_pos (nI_le hc (by omega)), B1_some]
              refine ⟨nI b, rfl, Or.inr ⟨b, u, h1, rfl, h3, h4, fun y t' hy hSy hDy => ?_⟩⟩
              rcases Nat.lt_succ_iff_lt_or_eq.mp hy with q | q
              · exact h5 y t' q hSy hDy
              · subst q; rw [hD] at hDy; cases hDy; exact hc
            · rw [if_neg (nI_ge (by omega) (by omega)), B1_some]
              refine ⟨nI i, rfl, Or.inr ⟨i, t, hi8, rfl, hS, hD, fun y t' hy hSy hDy => ?_⟩⟩
              rcases Nat.lt_succ_iff_lt_or_eq.mp hy with q | q
              · have := h5 y t' q hSy hDy; omega
              · subst q; rw [hD] at hDy; cases hDy; exact Nat.le_refl _
    obtain ⟨x', k1, k2⟩ := key
    exact Or.inl ⟨hi8, _, k1, by omega, nI_1 i, k2⟩
/-- time or tolls -/
def wyW (z : Int32) (σ : St) : Nat → Nat → Nat → Nat := if z = 0 then wyT (cA σ 12) (cA σ 14) (cA σ 15) else wyP (cA σ 13)
def wyAll (σ : St) : Prop := ∀ k, k < 64 → wyOk (cA σ 12) (cA σ 13) (cA σ 14) (cA σ 15) k
theorem wyW_ge (z : Int32) (σ : St) (x y u : Nat) : u ≤ wyW z σ x y u := by
  unfold wyW
  split
  · exact wN_ge
  · unfold wyP; omega
theorem wyW_mono (z : Int32) (σ : St) : Mon (wyW z σ) := by
  intro x y u v h
  unfold wyW
  split
  · exact wN_mono h
  · unfold wyP; omega
theorem wyW_le {z : Int32} {σ : St} (hw : wyAll σ) (x y u : Nat) (hx : x < 8) (hy : y < 8) : wyW z σ x y u ≤ u + 3500 := by
  obtain ⟨m, t, e, f, hm, ht, he, e1, e2, e3, e4, h0, h1⟩ := hw (8 * x + y) (by omega)
  have hf : f ≤ 1440 := by
    by_cases h : e = 0
    · have := h0 h; omega
    · have := h1 (by omega); omega
  unfold wyW
  split
  · unfold wyT
    rw [e1, e3, e4, nN_nI (by omega), nN_nI (by omega), nN_nI (by omega)]
    exact wN_le he hf hm
  · unfold wyP
    rw [e2, nN_nI (by omega)]
    omega
theorem lead_relax {σ0 : St} (z : Int32) (hw : wyAll σ0) (h : LdS σ0 D S σ) (hB : ∀ y t, y < 8 → D y = some t → t ≤ 60000000) {b u : Nat} (hb : b < 8) (hD : D b = some u) : ∃ σ', lq2 (c_lead_L31 z (nI b)) σ 0 = some σ' ∧ LdS σ0 (rlx (wyE (cA σ0 12)) (wyW z σ0) b u D) S σ' := by
  have hu := hB b u hb hD
  have hkb : rlx (wyE (cA σ0 12)) (wyW z σ0) b u D b = some u := rlx_keep (wyW_ge z σ0) hD (Nat.le_refl _)
  unfold lq2
  refine lp_forI 8 (fun i (q : St × Int32) => i ≤ 8 ∧ q.2 = nI i ∧ LdS σ0 (fun y => if y < i then rlx (wyE (cA σ0 12)) (wyW z σ0) b u D y else D y) S q.1) _ ?_ (i := 0) ⟨by omega, nI_0.symm, h.congr (fun y _ => by rw [if_neg (Nat.not_lt_zero y)])⟩
  rintro i ⟨σ1, x⟩ ⟨hi, hx, hI⟩
  dsimp only at hx hI
  subst hx
  by_cases h8 : i = 8
  · subst h8
    exact Or.inr ⟨_, by show c_lead_L31 z (nI b) _ (nI 8) = _; unfold c_lead_L31; rw [if_pos (by decide)], hI.congr (fun y hy => by rw [if_pos hy])⟩
  · have hi8 : i < 8 := by omega
    have hk : 8 * b + i < 64 := by omega
    have hDi : (if i < i then rlx (wyE (cA σ0 12)) (wyW z σ0) b u D i else D i) = D i := if_neg (Nat.lt_irrefl i)
    have hDb : (if b < i then rlx (wyE (cA σ0 12)) (wyW z σ0) b u D b else D b) = some u := by
      by_cases q : b < i
      · rw [if_pos q]; exact hkb
      · rw [if_neg q]; exact hD
    have r16i := hI.r16 hi8
    have r16b := hI.r16 hb
    rw [hDi] at r16i
    rw [hDb] at r16b
    have eu : e9 (some u) = nI u := rfl
    rw [eu] at r16b
    have k12 := hI.keep (k := 12) (by decide) (by decide)
    have k13 := hI.keep (k := 13) (by decide) (by decide)
    have k14 := hI.keep (k := 14) (by decide) (by decide)
    have k15 := hI.keep (k := 15) (by decide) (by decide)
    have hwk := hw _ hk
    have hwk1 : wyOk (cA σ1 12) (cA σ1 13) (cA σ1 14) (cA σ1 15) (8 * b + i) := by rw [k12, k13, k14, k15]; exact hwk
    have hov := over_is (σ := σ1) hk (u := u) (by omega) hwk1
    obtain ⟨m, t, e, f, hm, ht, he, e1, e2, e3, e4, h0, h1⟩ := hwk
    have key : ∃ σ2, c_lead_L31 z (nI b) σ1 (nI i) = some (Sum.inl (σ2, nI i + 1)) ∧ LdS σ0 (fun y => if y < i + 1 then rlx (wyE (cA σ0 12)) (wyW z σ0) b u D y else D y) S σ2 := by
      unfold c_lead_L31
      rw [if_neg (ge8 hi8), ix8, rdA_nI hk (by decide), B1_some, k12, e1]
      by_cases hm0 : m = 0
      · have hne : ¬ wyE (cA σ0 12) b i := by unfold wyE; rw [e1, hm0, nN_nI (by decide)]; exact Nat.lt_irrefl 0
        rw [if_pos (by rw [hm0, nI_0]; exact Int32.le_refl 0), B1_some]
        refine ⟨σ1, rfl, hI.congr (fun y hy => ?_)⟩
        by_cases q : y < i
        · rw [if_pos q, if_pos (by omega)]
        · rw [if_neg q]
          by_cases q2 : y = i
          · subst q2
            rw [if_pos (by omega)]
            unfold rlx
            rw [if_neg hne]
          · rw [if_neg (by omega)]
      · have hne : wyE (cA σ0 12) b i := by unfold wyE; rw [e1, nN_nI (by omega)]; omega
        have hwle := wyW_le (z := z) hw b i u hb hi8
        have ex : (if z = 0 then (B1 (rdA 8 σ1 16 (nI b)) fun v41 => B1 (c_over σ1 (nI (8 * b + i)) v41) fun v44 => some v44) else (B1 (rdA 8 σ1 16 (nI b)) fun v45 => B1 (rdA 64 σ1 13 (nI (8 * b + i))) fun v47 => some (v45 + v47))) = some (nI (wyW z σ0 b i u)) := by
          unfold wyW
          by_cases hz : z = 0
          · rw [if_pos hz, if_pos hz, r16b, B1_some, hov, B1_some, k12, k14, k15]
            rfl
          · rw [if_neg hz, if_neg hz, r16b, B1_some, rdA_nI hk (by decide), B1_some, k13, e2, nI_add]
            unfold wyP
            rw [e2, nN_nI (by omega)]
        have hrl : rlx (wyE (cA σ0 12)) (wyW z σ0) b u D i = (match D i with
          | none => some (wyW z σ0 b i u)
          | some t => if wyW z σ0 b i u < t then some (wyW z σ0 b i u) else some t) := by unfold rlx; rw [if_pos hne]; cases D i <;> rfl
        rw [if_neg (nI_nle (by omega) (by omega)), ex, B1_some, r16i, B1_some]
        have ex2 : (if e9 (D i) = -9 then (some (nI (wyW z σ0 b i u)) : Option Int32) else (B1 (some (e9 (D i))) fun v53 => if v53 ≤ nI (wyW z σ0 b i u) then (B1 (some (e9 (D i))) fun v55 => some v55) else some (nI (wyW z σ0 b i u)))) = some (e9 (rlx (wyE (cA σ0 12)) (wyW z σ0) b u D i)) := by
          rw [hrl]
          cases hDD : D i with
          | none => rfl
          | some t =>
            have ht := hB i t hi8 hDD
            have e5 : e9 (some t) = nI t := rfl
            rw [e5, if_neg (nI_n9 (by omega)), B1_some, B1_some]
            by_cases hc : wyW z σ0 b i u < t
            · rw [if_neg (nI_ge hc (by omega))]
              simp only [hc, if_true]
              rfl
            · rw [if_pos (nI_le (by omega) (by omega))]
              simp only [hc, if_false]
              rfl
        rw [ex2, B1_some]
        obtain ⟨σ2, g1, g2⟩ := hI.w16 hi8 (rlx (wyE (cA σ0 12)) (wyW z σ0) b u D i) rfl
        rw [g1, B1_some, B1_some]
        refine ⟨σ2, rfl, g2.congr (fun y hy => ?_)⟩
        by_cases q2 : y = i
        · subst q2
          rw [if_pos rfl, if_pos (by omega)]
        · rw [if_neg q2]
          by_cases q : y < i
          · rw [if_pos q, if_pos (by omega)]
          · rw [if_neg q, if_neg (by omega)]
    obtain ⟨σ2, k1, k2⟩ := key
    exact Or.inl ⟨hi8, _, k1, by omega, nI_1 i, k2⟩
theorem lead_is (z : Int32) (hw : wyAll σ) {a s : Nat} (ha : a < 8) (hs : s ≤ 50000000) : ∃ D f g, IsEA (wyE (cA σ 12)) (wyW z σ) a s D ∧ c_lead σ (nI a) (nI s) z = some (sAr (sAr σ 16 f) 17 g) ∧ (∀ y, y < 8 → f y = e9 (D y)) ∧ ∀ y t, y < 8 → D y = some t → s ≤ t ∧ t ≤ s + 28000 := by
  obtain ⟨σ4, h1, h2⟩ := lead_init (σ := σ) (a := a) (s := s) ha
  have bnd : ∀ {n : Nat} {D : Nat → Option Nat}, n ≤ 8 → Snd (wyE (cA σ 12)) (wyW z σ) a s n D → ∀ y t, y < 8 → D y = some t → s ≤ t ∧ t ≤ s + 28000 := fun hn hS y t hy ht => by
    obtain ⟨m, hm, hp⟩ := hS y t hy ht
    have g1 := Pth.le (wyW_le (z := z) hw) m y t hy hp
    have g2 := Pth.ge (wyW_ge z σ) m y t hp
    have g3 : m * 3500 ≤ 8 * 3500 := Nat.mul_le_mul_right _ (by omega)
    exact ⟨g2, by omega⟩
  have key : ∃ r, lq2 (c_lead_L11 z) σ4 0 = some r ∧ ∃ D S σ', (r = Sum.inl σ' ∨ r = Sum.inr σ') ∧ LdS σ D S σ' ∧ IsEA (wyE (cA σ 12)) (wyW z σ) a s D := by
    unfold lq2
    refine lp_forI 8 (fun n (q : St × Int32) => n ≤ 8 ∧ q.2 = nI n ∧ ∃ D S, LdS σ D S q.1 ∧ DjI (wyE (cA σ 12)) (wyW z σ) a s n D S) _ ?_ (i := 0) ⟨by omega, nI_0.symm, _, _, h2, DjI.start ha⟩
    rintro n ⟨σ1, x⟩ ⟨hn, hx, D, S, hL, hD⟩
    dsimp only at hx hL
    subst hx
    have hbn := bnd hn hD.1
    by_cases h8 : n = 8
    · subst h8
      refine Or.inr ⟨_, by show c_lead_L11 z _ (nI 8) = _; unfold c_lead_L11; rw [if_pos (by decide)], D, S, σ1, Or.inl rfl, hL, hD.done (Nat.le_refl _) (fun y t hy hSy => ?_)⟩
      rw [cnt_all hD.2.2.2.1 y hy] at hSy
      cases hSy
    · have hn8 : n < 8 := by omega
      obtain ⟨x, g1, g2⟩ := lead_best hL (fun y t hy ht => by have := (hbn y t hy ht).2; omega)
      rcases g2 with ⟨rfl, g3⟩ | ⟨b, u, hb, rfl, hSb, hDb, hmin⟩
      · refine Or.inr ⟨Sum.inr σ1, ?_, D, S, σ1, Or.inr rfl, hL, hD.done hn g3⟩
        show c_lead_L11 z σ1 (nI n) = _
        unfold c_lead_L11
        rw [if_neg (ge8 hn8), g1, B1_some, if_pos rfl]
      · obtain ⟨σ2, k1, k2⟩ := hL.w17 hb
        obtain ⟨σ3, k3, k4⟩ := lead_relax z hw k2 (fun y t hy ht => by have := (hbn y t hy ht).2; omega) hb hDb
        refine Or.inl ⟨hn8, (σ3, nI n + 1), ?_, by omega, nI_1 n, _, _, k4, hD.next (wyW_ge z σ) hb hSb hDb hmin⟩
        show c_lead_L11 z σ1 (nI n) = _
        unfold c_lead_L11
        rw [if_neg (ge8 hn8), g1, B1_some, if_neg (nI_n9 (by omega)), k1, B1_some, k3, B1_some]
  obtain ⟨r, k1, D, S, σ', k2, ⟨f, g, rfl, k3, k4⟩, k5⟩ := key
  refine ⟨D, f, g, k5, ?_, k3, bnd (Nat.le_refl _) k5.1⟩
  unfold c_lead
  rw [h1, B1_some, k1]
  rcases k2 with rfl | rfl
  · rw [BR1_l]
  · rw [BR1_r]
end Lead
