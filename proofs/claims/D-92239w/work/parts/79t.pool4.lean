/-! plain law: pool, the nearest that lacks; the chain gone -/
section Pool4
variable {σ σ' σ0 τ τ' τ0 : St} {c : Nat → Nat → Option Nat} {x : Nat → Nat → Nat} {ov lk : Nat → Nat} {S T : Nat → Prop} {π : Nat → Nat} {s : Dp} {d : Nat → Option Nat}
def e98 : Option Nat → Int32
  | none => -9
  | some b => nI (8 + b)
theorem L69_C (h53 : ∀ j, j < 8 → cA σ 53 j = nI (lk j) ∧ lk j < 2 ^ 31) (h56 : ∀ v, v < 16 → cA σ 56 v = enc 1000000000 (d v)) (hb : ∀ v u, d v = some u → u ≤ 448000) : lq2 (c_cheapestWay_L69 σ) (-9) 0 = some (e9 (tgP d lk 8)) := by
  have key : ∃ e, lq2 (c_cheapestWay_L69 σ) (-9) 0 = some e ∧ e = e9 (tgP d lk 8) := by
    unfold lq2
    refine lp_forI 8 (fun k (p : Int32 × Int32) => k ≤ 8 ∧ p = (e9 (tgP d lk k), nI k)) _ ?_ (i := 0) ⟨by omega, rfl⟩
    rintro k p ⟨hk, rfl⟩
    by_cases h8 : k = 8
    · subst h8
      exact Or.inr ⟨_, by show c_cheapestWay_L69 σ _ (nI 8) = _; unfold c_cheapestWay_L69; rw [if_pos (by decide)], rfl⟩
    · have hk2 : k < 8 := by omega
      refine Or.inl ⟨hk2, (e9 (tgP d lk (k + 1)), nI (k + 1)), ?_, by omega, rfl⟩
      show c_cheapestWay_L69 σ (e9 (tgP d lk k)) (nI k) = _
      have r6 : ∀ v, v < 16 → rdA 16 σ 56 (nI v) = some (enc 1000000000 (d v)) := fun v hv => by rw [rdA_nI hv (by decide), h56 v hv]
      have e8 : ∀ v, (8 : Int32) + nI v = nI (8 + v) := fun v => nI_add 8 v
      unfold c_cheapestWay_L69
      rw [if_neg (ge8 hk2), rdA_nI hk2 (by decide), B1_some, (h53 k hk2).1, e8 k, r6 (8 + k) (by omega), tgP]
      by_cases q : lk k = 0
      · rw [q, if_pos (show nI 0 ≤ 0 by decide), B1_some, if_pos k00, B1_some, if_pos rfl, nI_1]
      · rw [if_neg (show ¬ nI (lk k) ≤ 0 from nI_ge (b := lk k) (a := 0) (by omega) (h53 k hk2).2), B1_some, if_neg q]
        cases hd : d (8 + k) with
        | none =>
          rw [if_pos (show enc 1000000000 none = 1000000000 from rfl), B1_some, if_pos k00, B1_some, if_pos rfl, nI_1]
        | some u =>
          have hu := hb _ _ hd
          rw [if_neg (show ¬ enc 1000000000 (some u) = 1000000000 from fun z => by have := (nI_eq (b := 1000000000) (by omega) (by decide)).mp z; omega), B1_some, if_neg k10, if_neg (show ¬ some u = none from fun z => by cases z)]
          cases ht : tgP d lk k with
          | none =>
            rw [if_pos (show e9 none = -9 from rfl), B1_some, nI_1]
            rfl
          | some b =>
            obtain ⟨b1, b2, ub, b3⟩ := tg_some ht
            have hub := hb _ _ b3
            rw [if_neg (show ¬ e9 (some b) = -9 from nI_n9 (by omega)), B1_some, show e9 (some b) = nI b from rfl, e8 b, r6 (8 + b) (by omega), B1_some, b3]
            dsimp only
            rw [b3]
            show B1 (if nI ub ≤ nI u then some (nI b) else some (nI k)) _ = some (Sum.inl (e9 (if ub ≤ u then some b else some k), nI (k + 1)))
            by_cases q3 : ub ≤ u
            · rw [if_pos (nI_le q3 (by omega)), if_pos q3, B1_some, nI_1]; rfl
            · rw [if_neg (nI_ge (by omega) (by omega)), if_neg q3, B1_some, nI_1]; rfl
  obtain ⟨e, k1, rfl⟩ := key
  exact k1
theorem L69_M (h65 : ∀ j, j < 8 → cA τ 65 j = nI (lk j) ∧ lk j < 2 ^ 31) (h67 : ∀ v, v < 16 → cA τ 67 v = enc 100000000 (d v)) (hb : ∀ v u, d v = some u → u ≤ 448000) : lq2 (m_nextBrought_L69 τ) (-9) 8 = some (e98 (tgP d lk 8)) := by
  have key : ∃ e, lq2 (m_nextBrought_L69 τ) (-9) 8 = some e ∧ e = e98 (tgP d lk 8) := by
    unfold lq2
    refine lp_forI 8 (fun k (p : Int32 × Int32) => k ≤ 8 ∧ p = (e98 (tgP d lk k), nI (8 + k))) _ ?_ (i := 0) ⟨by omega, rfl⟩
    rintro k p ⟨hk, rfl⟩
    by_cases h8 : k = 8
    · subst h8
      exact Or.inr ⟨_, by show m_nextBrought_L69 τ _ (nI 16) = _; unfold m_nextBrought_L69; rw [if_pos (by decide)], rfl⟩
    · have hk2 : k < 8 := by omega
      refine Or.inl ⟨hk2, (e98 (tgP d lk (k + 1)), nI (8 + (k + 1))), ?_, by omega, rfl⟩
      show m_nextBrought_L69 τ (e98 (tgP d lk k)) (nI (8 + k)) = _
      have r6 : ∀ v, v < 16 → rdA 16 τ 67 (nI v) = some (enc 100000000 (d v)) := fun v hv => by rw [rdA_nI hv (by decide), h67 v hv]
      have e8 : nI (8 + k) - 8 = nI k := by
        rw [show (8 : Int32) = nI 8 from rfl, pk_sub (show 8 ≤ 8 + k by omega), show 8 + k - 8 = k by omega]
      have n1 : nI (8 + k) + 1 = nI (8 + (k + 1)) := nI_1 (8 + k)
      unfold m_nextBrought_L69
      rw [if_neg (show ¬ (16 : Int32) ≤ nI (8 + k) from nI_ge (b := 16) (by omega) (by decide)), e8, rdA_nI hk2 (by decide), B1_some, (h65 k hk2).1, r6 (8 + k) (by omega), tgP]
      by_cases q : lk k = 0
      · rw [q, if_pos (show nI 0 ≤ 0 by decide), B1_some, if_pos rfl, n1]
      · rw [if_neg (show ¬ nI (lk k) ≤ 0 from nI_ge (b := lk k) (a := 0) (by omega) (h65 k hk2).2), B1_some, if_neg q]
        cases hd : d (8 + k) with
        | none =>
          rw [if_pos (show (100000000 : Int32) ≤ enc 100000000 none from Int32.le_refl _), B1_some, if_pos rfl, n1]
        | some u =>
          have hu := hb _ _ hd
          rw [if_neg (show ¬ (100000000 : Int32) ≤ enc 100000000 (some u) from nI_ge (b := 100000000) (by omega) (by decide)), if_neg (show ¬ some u = none from fun z => by cases z)]
          cases ht : tgP d lk k with
          | none =>
            rw [if_pos (show e98 none < 0 from k9l), B1_some, n1]
            rfl
          | some b =>
            obtain ⟨b1, b2, ub, b3⟩ := tg_some ht
            have hub := hb _ _ b3
            rw [if_neg (show ¬ e98 (some b) < 0 from nI_pos (by omega)), B1_some, show e98 (some b) = nI (8 + b) from rfl, r6 (8 + b) (by omega), B1_some, b3]
            dsimp only
            rw [b3]
            show B1 (if nI ub ≤ nI u then some (nI (8 + b)) else some (nI (8 + k))) _ = some (Sum.inl (e98 (if ub ≤ u then some b else some k), nI (8 + (k + 1))))
            by_cases q3 : ub ≤ u
            · rw [if_pos (nI_le q3 (by omega)), if_pos q3, B1_some, n1]; rfl
            · rw [if_neg (nI_ge (by omega) (by omega)), if_neg q3, B1_some, n1]; rfl
  obtain ⟨e, k1, rfl⟩ := key
  exact k1
/-- what a side holds of the round -/
def BsP (A2 A3 A4 A5 : Nat) (cN : Int32) (σ : St) (c : Nat → Nat → Option Nat) (x : Nat → Nat → Nat) (ov lk : Nat → Nat) : Prop :=
  (∀ i, i < 8 → cA σ A2 i = nI (ov i)) ∧ (∀ i, i < 8 → cA σ A3 i = nI (lk i)) ∧ (∀ i j, i < 8 → j < 8 → cA σ A4 (8 * i + j) = enc cN (c i j)) ∧ ∀ i j, i < 8 → j < 8 → cA σ A5 (8 * i + j) = nI (x i j)
/-- the numbers are small -/
def Sm (x : Nat → Nat → Nat) (ov lk : Nat → Nat) : Prop := (∀ i j, x i j < 2 ^ 31) ∧ (∀ i, ov i < 2 ^ 31) ∧ ∀ i, lk i < 2 ^ 31
theorem PEn_C : PEn (fun v => v = -9) (fun v => v = 1000000000) (-9) 1000000000 := ⟨rfl, fun w hw => nI_n9 (by omega), rfl, fun u hu z => by have := (nI_eq (b := 1000000000) (by omega) (by decide)).mp z; omega, fun u hu => nI_ge (b := 1000000000) (by omega) (by decide)⟩
theorem PEn_M : PEn (fun v => 100000000 ≤ v) (fun v => 100000000 ≤ v) 100000000 100000000 := ⟨Int32.le_refl _, fun w hw => nI_ge (b := 100000000) (by omega) (by decide), Int32.le_refl _, fun u hu => nI_ge (b := 100000000) (by omega) (by decide), fun u hu => nI_ge (b := 100000000) (by omega) (by decide)⟩
theorem AR_C : AR 54 55 56 57 := ⟨by decide, by decide, by decide, by decide, by decide⟩
theorem AR_M : AR 66 63 67 68 := ⟨by decide, by decide, by decide, by decide, by decide⟩
theorem F2.sA_ne {A6 A7 k : Nat} (h : F2 A6 A7 σ σ') (h6 : k ≠ A6) (h7 : k ≠ A7) : cA σ' k = cA σ k := by
  obtain ⟨f, g, rfl⟩ := h
  rw [cA_sAr_ne _ h7, cA_sAr_ne _ h6]
theorem cheap_C (g : GrP c x ov S T π) (hs : Sm x ov lk) (h : BsP 52 53 54 55 (-9) σ c x ov lk) : ∃ n σ', c_cheapestWay σ = some (e9 (tgP (itpP c x n (d0P ov)).1 lk 8), σ') ∧ PP 54 55 56 57 (-9) 1000000000 σ' c x (itpP c x n (d0P ov)) ∧ (psP c x 64 (itpP c x n (d0P ov))).2 = false ∧ F2 56 57 σ σ' := by
  obtain ⟨σ1, a1, a2, a3⟩ := gL1_is (A2 := 52) (dN := 1000000000) (step := c_cheapestWay_L1) AR_C (by decide) (by decide) (fun i hi => ⟨h.1 i hi, hs.2.1 i⟩) h.2.2.1 h.2.2.2 (fun s y => rfl)
  have hI := d0_iv g
  obtain ⟨n, σ2, b1, b2, b3, b4⟩ := gL17_is PEn_C AR_C g hs.1 hI a2 (step := c_cheapestWay_L17) (fun s y => rfl)
  have hF := a3.trans AR_C.a67 b4
  have hIn := itp_iv g hI n
  refine ⟨n, σ2, ?_, b2, b3, hF⟩
  unfold c_cheapestWay
  rw [a1, B1_some, b1, B1_some, L69_C (lk := lk) (d := (itpP c x n (d0P ov)).1) (fun j hj => ⟨by rw [hF.sA_ne (by decide) (by decide)]; exact h.2.1 j hj, hs.2.2 j⟩) b2.2.2.1 (fun v u hv => hIn.b44 hv), B1_some]
theorem near_M (g : GrP c x ov S T π) (hs : Sm x ov lk) (h : BsP 64 65 66 63 100000000 τ c x ov lk) : ∃ n τ', m_nextBrought τ = some (e98 (tgP (itpP c x n (d0P ov)).1 lk 8), τ') ∧ PP 66 63 67 68 100000000 100000000 τ' c x (itpP c x n (d0P ov)) ∧ (psP c x 64 (itpP c x n (d0P ov))).2 = false ∧ F2 67 68 τ τ' := by
  obtain ⟨σ1, a1, a2, a3⟩ := gL1_is (A2 := 64) (dN := 100000000) (step := m_nextBrought_L1) AR_M (by decide) (by decide) (fun i hi => ⟨h.1 i hi, hs.2.1 i⟩) h.2.2.1 h.2.2.2 (fun s y => rfl)
  have hI := d0_iv g
  obtain ⟨n, σ2, b1, b2, b3, b4⟩ := gL17_is PEn_M AR_M g hs.1 hI a2 (step := m_nextBrought_L17) (fun s y => rfl)
  have hF := a3.trans AR_M.a67 b4
  have hIn := itp_iv g hI n
  refine ⟨n, σ2, ?_, b2, b3, hF⟩
  unfold m_nextBrought
  rw [a1, B1_some, b1, B1_some, L69_M (lk := lk) (d := (itpP c x n (d0P ov)).1) (fun j hj => ⟨by rw [hF.sA_ne (by decide) (by decide)]; exact h.2.1 j hj, hs.2.2 j⟩) b2.2.2.1 (fun v u hv => hIn.b44 hv), B1_some]
theorem ix8m {v u : Nat} (hu : 8 ≤ u) : 8 * nI v + nI u - 8 = nI (8 * v + (u - 8)) := by
  rw [ix8, show (8 : Int32) = nI 8 from rfl, pk_sub (show 8 ≤ 8 * v + u by omega), show 8 * v + u - 8 = 8 * v + (u - 8) by omega]
theorem up55 {A : Nat} {xc : Nat → Nat → Nat} (h : ∀ i j, i < 8 → j < 8 → cA σ A (8 * i + j) = nI (xc i j)) {a b w : Nat} (ha : a < 8) (hb : b < 8) : ∀ i j, i < 8 → j < 8 → cA (sA σ A (8 * a + b) (nI w)) A (8 * i + j) = nI (up2P xc a b w i j) := fun i j hi hj => by
  rw [cA_sA, if_pos rfl]
  by_cases q : i = a ∧ j = b
  · obtain ⟨rfl, rfl⟩ := q
    rw [upd_at, up2_at]
  · rw [upd_ne _ (by omega), up2_ne _ _ q]
    exact h i j hi hj
theorem br_C {p : Nat → Option Nat} : ∀ (n v : Nat) (xc : Nat → Nat → Nat) (σ : St), CWP p n v xc → (∀ v, v < 16 → cA σ 57 v = e9 (p v)) → (∀ i j, i < 8 → j < 8 → cA σ 55 (8 * i + j) = nI (xc i j)) → v < 16 →
    ∃ f, lq2 c_bringOne_L5 σ (nI v) = some (sAr σ 55 f, nI (chxP p n v xc).2) ∧ ∀ i j, i < 8 → j < 8 → f (8 * i + j) = nI ((chxP p n v xc).1 i j) := by
  intro n
  induction n with
  | zero =>
    rintro v xc σ ⟨h1, h2⟩ h57 h55 hv
    refine ⟨cA σ 55, ?_, h55⟩
    unfold lq2
    refine lp_end ?_
    show c_bringOne_L5 σ (nI v) = _
    unfold c_bringOne_L5
    rw [rdA_nI hv (by decide), B1_some, h57 v hv, h1, if_pos (show e9 none = -9 from rfl), sAr_self]
    rfl
  | succ n ih =>
    rintro v xc σ ⟨u, h1, h2⟩ h57 h55 hv
    have r57 : rdA 16 σ 57 (nI v) = some (nI u) := by rw [rdA_nI hv (by decide), h57 v hv, h1]; rfl
    rcases h2 with ⟨v8, u8, u16, hp, hw⟩ | ⟨v8, v16, u8, hw⟩
    · have e1 : c_bringOne_L5 σ (nI v) = some (Sum.inl (sA σ 55 (8 * v + (u - 8)) (nI (xc v (u - 8) - 1)), nI u)) := by
        unfold c_bringOne_L5
        rw [r57, B1_some, if_neg (show ¬ nI u = -9 from nI_n9 (by omega)), B1_some, if_pos (show nI v < 8 from (nI_ltI (b := 8) (by omega) (by decide)).mpr v8), ix8m u8, rdA_nI (by omega) (by decide), B1_some, h55 v (u - 8) v8 (by omega), wrA_nI (by omega) (by decide), B1_some, B1_some, show (1 : Int32) = nI 1 from rfl, pk_sub (show 1 ≤ xc v (u - 8) by omega)]
      obtain ⟨f, k1, k2⟩ := ih u _ (sA σ 55 (8 * v + (u - 8)) (nI (xc v (u - 8) - 1))) hw (fun y hy => by rw [cA_sA, if_neg (by decide)]; exact h57 y hy) (up55 h55 v8 (by omega)) u16
      refine ⟨f, ?_, ?_⟩
      · rw [chxP, h1]
        dsimp only
        rw [if_pos v8]
        unfold lq2 at k1 ⊢
        rw [lp_go (s := (σ, nI v)) e1, k1]
        unfold sA
        rw [sAr_sAr]
      · rw [chxP, h1]
        dsimp only
        rw [if_pos v8]
        exact k2
    · have e1 : c_bringOne_L5 σ (nI v) = some (Sum.inl (sA σ 55 (8 * u + (v - 8)) (nI (xc u (v - 8) + 1)), nI u)) := by
        unfold c_bringOne_L5
        rw [r57, B1_some, if_neg (show ¬ nI u = -9 from nI_n9 (by omega)), B1_some, if_neg (show ¬ nI v < 8 from fun z => by have := (nI_ltI (b := 8) (by omega) (by decide)).mp z; omega), ix8m v8, rdA_nI (by omega) (by decide), B1_some, h55 u (v - 8) u8 (by omega), wrA_nI (by omega) (by decide), B1_some, B1_some, nI_1]
      obtain ⟨f, k1, k2⟩ := ih u _ (sA σ 55 (8 * u + (v - 8)) (nI (xc u (v - 8) + 1))) hw (fun y hy => by rw [cA_sA, if_neg (by decide)]; exact h57 y hy) (up55 h55 u8 (by omega)) (by omega)
      refine ⟨f, ?_, ?_⟩
      · rw [chxP, h1]
        dsimp only
        rw [if_neg (show ¬ v < 8 by omega)]
        unfold lq2 at k1 ⊢
        rw [lp_go (s := (σ, nI v)) e1, k1]
        unfold sA
        rw [sAr_sAr]
      · rw [chxP, h1]
        dsimp only
        rw [if_neg (show ¬ v < 8 by omega)]
        exact k2
theorem br_M {p : Nat → Option Nat} : ∀ (n v : Nat) (xc : Nat → Nat → Nat) (σ : St), CWP p n v xc → (∀ v, v < 16 → cA σ 68 v = e9 (p v)) → (∀ i j, i < 8 → j < 8 → cA σ 63 (8 * i + j) = nI (xc i j)) → v < 16 →
    ∃ f, lq2 m_pool_L79 σ (nI v) = some (sAr σ 63 f, nI (chxP p n v xc).2) ∧ ∀ i j, i < 8 → j < 8 → f (8 * i + j) = nI ((chxP p n v xc).1 i j) := by
  intro n
  induction n with
  | zero =>
    rintro v xc σ ⟨h1, h2⟩ h57 h55 hv
    refine ⟨cA σ 63, ?_, h55⟩
    unfold lq2
    refine lp_end ?_
    show m_pool_L79 σ (nI v) = _
    unfold m_pool_L79
    rw [rdA_nI hv (by decide), B1_some, h57 v hv, h1, if_pos (show e9 none < 0 from k9l), sAr_self]
    rfl
  | succ n ih =>
    rintro v xc σ ⟨u, h1, h2⟩ h57 h55 hv
    have r57 : rdA 16 σ 68 (nI v) = some (nI u) := by rw [rdA_nI hv (by decide), h57 v hv, h1]; rfl
    rcases h2 with ⟨v8, u8, u16, hp, hw⟩ | ⟨v8, v16, u8, hw⟩
    · have e1 : m_pool_L79 σ (nI v) = some (Sum.inl (sA σ 63 (8 * v + (u - 8)) (nI (xc v (u - 8) - 1)), nI u)) := by
        have hv8 : nI v < 8 := (nI_ltI (b := 8) (by omega) (by decide)).mpr v8
        have hm : nI (xc v (u - 8)) + -1 = nI (xc v (u - 8) - 1) := by
          rw [← pk_sub (show 1 ≤ xc v (u - 8) by omega), Int32.sub_eq_add_neg]
          rfl
        unfold m_pool_L79
        rw [r57, B1_some, if_neg (show ¬ nI u < 0 from nI_pos (by omega)), B1_some, if_pos hv8, B1_some, ix8m u8, rdA_nI (by omega) (by decide), B1_some, h55 v (u - 8) v8 (by omega), if_pos hv8, B1_some, wrA_nI (by omega) (by decide), B1_some, hm]
      obtain ⟨f, k1, k2⟩ := ih u _ (sA σ 63 (8 * v + (u - 8)) (nI (xc v (u - 8) - 1))) hw (fun y hy => by rw [cA_sA, if_neg (by decide)]; exact h57 y hy) (up55 h55 v8 (by omega)) u16
      refine ⟨f, ?_, ?_⟩
      · rw [chxP, h1]
        dsimp only
        rw [if_pos v8]
        unfold lq2 at k1 ⊢
        rw [lp_go (s := (σ, nI v)) e1, k1]
        unfold sA
        rw [sAr_sAr]
      · rw [chxP, h1]
        dsimp only
        rw [if_pos v8]
        exact k2
    · have e1 : m_pool_L79 σ (nI v) = some (Sum.inl (sA σ 63 (8 * u + (v - 8)) (nI (xc u (v - 8) + 1)), nI u)) := by
        have hv8 : ¬ nI v < 8 := fun z => by have := (nI_ltI (b := 8) (by omega) (by decide)).mp z; omega
        unfold m_pool_L79
        rw [r57, B1_some, if_neg (show ¬ nI u < 0 from nI_pos (by omega)), B1_some, if_neg hv8, B1_some, ix8m v8, rdA_nI (by omega) (by decide), B1_some, h55 u (v - 8) u8 (by omega), if_neg hv8, B1_some, wrA_nI (by omega) (by decide), B1_some, nI_1]
      obtain ⟨f, k1, k2⟩ := ih u _ (sA σ 63 (8 * u + (v - 8)) (nI (xc u (v - 8) + 1))) hw (fun y hy => by rw [cA_sA, if_neg (by decide)]; exact h57 y hy) (up55 h55 u8 (by omega)) (by omega)
      refine ⟨f, ?_, ?_⟩
      · rw [chxP, h1]
        dsimp only
        rw [if_neg (show ¬ v < 8 by omega)]
        unfold lq2 at k1 ⊢
        rw [lp_go (s := (σ, nI v)) e1, k1]
        unfold sA
        rw [sAr_sAr]
      · rw [chxP, h1]
        dsimp only
        rw [if_neg (show ¬ v < 8 by omega)]
        exact k2
end Pool4
