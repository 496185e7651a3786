/-! plain law: pool, one brought after the other -/
section Pool5
variable {σ σ' σ0 τ τ' τ0 : St} {c cC cM : Nat → Nat → Option Nat} {x : Nat → Nat → Nat} {ov lk : Nat → Nat} {S T : Nat → Prop} {π : Nat → Nat} {s : Dp}
def dec1 (f : Nat → Nat) (i : Nat) : Nat → Nat := fun k => if k = i then f k - 1 else f k
theorem dec1_le (f : Nat → Nat) (i k : Nat) : dec1 f i k ≤ f k := by
  unfold dec1
  by_cases q : k = i
  · rw [if_pos q]; omega
  · rw [if_neg q]; exact Nat.le_refl _
theorem dec_A {A : Nat} {f : Nat → Nat} (h : ∀ i, i < 8 → cA σ A i = nI (f i)) {b : Nat} : ∀ i, i < 8 → cA (sA σ A b (nI (f b - 1))) A i = nI (dec1 f b i) := fun i hi => by
  rw [cA_sA, if_pos rfl]
  unfold dec1
  by_cases q : i = b
  · rw [q, upd_at, if_pos rfl]
  · rw [upd_ne _ q, if_neg q]; exact h i hi
theorem sub1 {a : Nat} (h : 0 < a) : nI a - 1 = nI (a - 1) := by
  rw [show (1 : Int32) = nI 1 from rfl, pk_sub h]
theorem sm_dec {f : Nat → Nat} {b : Nat} (hb : b < 8) (h : 0 < f b) : smP (dec1 f b) 8 + 1 = smP f 8 := by
  have := sm_upd (f := f) (f' := dec1 f b) (b := b) (fun v hv => if_neg hv) (k := 8) hb
  have e : dec1 f b b = f b - 1 := if_pos rfl
  rw [e] at this
  omega
theorem one_C {p : Nat → Option Nat} {n b r : Nat} {x' : Nat → Nat → Nat} (h : BsP 52 53 54 55 (-9) σ c x ov lk) (h57 : ∀ v, v < 16 → cA σ 57 v = e9 (p v)) (hb : b < 8) (hl : 0 < lk b) (hw : CWP p n (8 + b) x) (hx : chxP p n (8 + b) x = (x', r)) (hr : r < 8) (ho : 0 < ov r) :
    ∃ σ', c_bringOne σ (nI b) = some σ' ∧ BsP 52 53 54 55 (-9) σ' c x' (dec1 ov r) (dec1 lk b) ∧ ScC σ σ' := by
  obtain ⟨h1, h2, h3, h4⟩ := h
  obtain ⟨f, k1, k2⟩ := br_C n (8 + b) x (sA σ 53 b (nI (lk b - 1))) hw (fun v hv => by rw [cA_sA, if_neg (by decide)]; exact h57 v hv) (fun i j hi hj => by rw [cA_sA, if_neg (by decide)]; exact h4 i j hi hj) (by omega)
  rw [hx] at k1 k2
  dsimp only at k1 k2
  have e52 : cA (sAr (sA σ 53 b (nI (lk b - 1))) 55 f) 52 r = nI (ov r) := by
    rw [cA_sAr_ne _ (by decide), cA_sA, if_neg (by decide)]; exact h1 r hr
  refine ⟨sA (sAr (sA σ 53 b (nI (lk b - 1))) 55 f) 52 r (nI (ov r - 1)), ?_, ⟨?_, ?_, ?_, ?_⟩, ((ScC.rfl.wA (by decide)).wAr (by decide)).wA (by decide)⟩
  · unfold c_bringOne
    rw [rdA_nI hb (by decide), B1_some, h2 b hb, wrA_nI hb (by decide), B1_some, sub1 hl, show (8 : Int32) + nI b = nI (8 + b) from nI_add 8 b, k1, B2_some, rdA_nI hr (by decide), B1_some, e52, wrA_nI hr (by decide), B1_some, sub1 ho]
  · exact dec_A (fun i hi => by rw [cA_sAr_ne _ (by decide), cA_sA, if_neg (by decide)]; exact h1 i hi)
  · intro i hi
    rw [cA_sA, if_neg (by decide), cA_sAr_ne _ (by decide)]
    exact dec_A h2 i hi
  · intro i j hi hj
    rw [cA_sA, if_neg (by decide), cA_sAr_ne _ (by decide), cA_sA, if_neg (by decide)]
    exact h3 i j hi hj
  · intro i j hi hj
    rw [cA_sA, if_neg (by decide), cA_sAr_at]
    exact k2 i j hi hj
/-- what holds between the rounds -/
def PI (σ0 τ0 : St) (cC cM : Nat → Nat → Option Nat) (S T : Nat → Prop) (L0 k : Nat) (σ τ : St) (cst : Nat) (t t' cn : Int32) : Prop :=
  ∃ x ov lk πC πM nC nM, GrP cC x ov S T πC ∧ GrP cM x ov S T πM ∧ (∀ i j, x i j ≤ k) ∧ (∀ i, ov i ≤ 30) ∧ (∀ i, lk i ≤ 30) ∧ (∀ j, j < 8 → 0 < lk j → T j) ∧
    BsP 52 53 54 55 (-9) σ cC x ov lk ∧ BsP 64 65 66 63 100000000 τ cM x ov lk ∧
    PP 54 55 56 57 (-9) 1000000000 σ cC x (itpP cC x nC (d0P ov)) ∧ PP 66 63 67 68 100000000 100000000 τ cM x (itpP cM x nM (d0P ov)) ∧
    (psP cC x 64 (itpP cC x nC (d0P ov))).2 = false ∧ (psP cM x 64 (itpP cM x nM (d0P ov))).2 = false ∧ ScC σ0 σ ∧ ScM τ0 τ ∧
    t = e9 (tgP (itpP cC x nC (d0P ov)).1 lk 8) ∧ t' = e98 (tgP (itpP cM x nM (d0P ov)).1 lk 8) ∧ smP lk 8 + k = L0 ∧ cn = nI (smP lk 8) ∧ cst ≤ 448000 * k
theorem PI.mk {k L0 cst : Nat} {x : Nat → Nat → Nat} {ov lk : Nat → Nat} {πC πM : Nat → Nat} (hk : k ≤ 240) (gC : GrP cC x ov S T πC) (gM : GrP cM x ov S T πM) (hx : ∀ i j, x i j ≤ k) (ho : ∀ i, ov i ≤ 30) (hl : ∀ i, lk i ≤ 30) (hT : ∀ j, j < 8 → 0 < lk j → T j) (bC : BsP 52 53 54 55 (-9) σ cC x ov lk) (bM : BsP 64 65 66 63 100000000 τ cM x ov lk) (sC : ScC σ0 σ) (sM : ScM τ0 τ) (hL : smP lk 8 + k = L0) (hc : cst ≤ 448000 * k) :
    ∃ t t' σ' τ', c_cheapestWay σ = some (t, σ') ∧ m_nextBrought τ = some (t', τ') ∧ PI σ0 τ0 cC cM S T L0 k σ' τ' cst t t' (nI (smP lk 8)) := by
  have hs : Sm x ov lk := ⟨fun i j => by have := hx i j; omega, fun i => by have := ho i; omega, fun i => by have := hl i; omega⟩
  obtain ⟨nC, σ', a1, a2, a3, a4⟩ := cheap_C gC hs bC
  obtain ⟨nM, τ', b1, b2, b3, b4⟩ := near_M gM hs bM
  refine ⟨_, _, σ', τ', a1, b1, x, ov, lk, πC, πM, nC, nM, gC, gM, hx, ho, hl, hT, ?_, ?_, a2, b2, a3, b3, ?_, ?_, rfl, rfl, hL, rfl, hc⟩
  · obtain ⟨h1, h2, h3, h4⟩ := bC
    unfold BsP
    rw [a4.sA_ne (by decide) (by decide), a4.sA_ne (by decide) (by decide), a4.sA_ne (by decide) (by decide), a4.sA_ne (by decide) (by decide)]
    exact ⟨h1, h2, h3, h4⟩
  · obtain ⟨h1, h2, h3, h4⟩ := bM
    unfold BsP
    rw [b4.sA_ne (by decide) (by decide), b4.sA_ne (by decide) (by decide), b4.sA_ne (by decide) (by decide), b4.sA_ne (by decide) (by decide)]
    exact ⟨h1, h2, h3, h4⟩
  · obtain ⟨f, g, rfl⟩ := a4
    exact (sC.wAr (by decide)).wAr (by decide)
  · obtain ⟨f, g, rfl⟩ := b4
    exact (sM.wAr (by decide)).wAr (by decide)
theorem pool_step (hd : DgP cC cM) {L0 k cst : Nat} {t t' cn : Int32} (hL : L0 ≤ 240) (h : PI σ0 τ0 cC cM S T L0 k σ τ cst t t' cn) :
    (t = -9 ∧ t' = -9) ∨ (k < L0 ∧ ∃ σ' τ' cst' t1 t1' cn', c_pool_L92 σ (nI cst) t = some (Sum.inl (σ', nI cst', t1)) ∧ m_pool_L65 τ cn (nI cst) t' = some (Sum.inl (τ', cn', nI cst', t1')) ∧ PI σ0 τ0 cC cM S T L0 (k + 1) σ' τ' cst' t1 t1' cn') := by
  obtain ⟨x, ov, lk, πC, πM, nC, nM, gC, gM, hx, ho, hl, hT, bC, bM, pC, pM, fC, fM, sC, sM, rfl, rfl, hLk, rfl, hcst⟩ := h
  have iC0 := d0_iv gC
  have iM0 := d0_iv gM
  have hQ := fin_rel hd gC gM (fun v _ _ => ⟨rfl, rfl⟩ : QrP S (d0P ov) (d0P ov)) iC0 iM0 fC fM
  have iC := itp_iv gC iC0 nC
  have iM := itp_iv gM iM0 nM
  have fxC := fix_of fC
  have fxM := fix_of fM
  have rel : ∀ j, j < 8 → T j → (itpP cC x nC (d0P ov)).1 (8 + j) = (itpP cM x nM (d0P ov)).1 (8 + j) := fun j hj hTj => (hQ (8 + j) (by omega) (Or.inr (by rw [show 8 + j - 8 = j by omega]; exact fun g => gC.ST j g hTj))).1
  have hteq : tgP (itpP cM x nM (d0P ov)).1 lk 8 = tgP (itpP cC x nC (d0P ov)).1 lk 8 := (tg_eq (fun j hj hlj => rel j hj (hT j hj hlj)) 8 (by omega)).symm
  rw [hteq]
  generalize itpP cC x nC (d0P ov) = sc at *
  generalize itpP cM x nM (d0P ov) = sm at *
  cases htg : tgP sc.1 lk 8 with
  | none => exact Or.inl ⟨rfl, rfl⟩
  | some b =>
    right
    obtain ⟨hb, hlb, D, hD⟩ := tg_some htg
    have hTb := hT b hb hlb
    have hDM : sm.1 (8 + b) = some D := by rw [← rel b hb hTb]; exact hD
    have hD4 := iC.b44 hD
    obtain ⟨n, hn⟩ := iC.ch _ _ hD
    have hTb' : 8 ≤ 8 + b → T (8 + b - 8) := fun _ => by rw [show 8 + b - 8 = b by omega]; exact hTb
    obtain ⟨c1, c2, c3, c4, c5⟩ := ch_ok gC iC (E := D - πC (8 + b)) n (8 + b) x hn ⟨D, hD, Nat.le_refl _⟩ hTb' (fun _ _ => Nat.le_succ _) (fun _ _ _ _ _ => Nat.le_refl _) (fun _ _ _ _ _ _ => Nat.le_refl _) (fun _ _ q => Or.inl q)
    obtain ⟨hnM, hce⟩ := ch_eq gC iC hQ n (8 + b) x (by omega) hTb' hn
    obtain ⟨m1, m2, m3, m4, m5⟩ := ch_ok gM iM (E := D - πM (8 + b)) n (8 + b) x hnM ⟨D, hDM, Nat.le_refl _⟩ hTb' (fun _ _ => Nat.le_succ _) (fun _ _ _ _ _ => Nat.le_refl _) (fun _ _ _ _ _ _ => Nat.le_refl _) (fun _ _ q => Or.inl q)
    rw [hce] at m2 m3 m4 m5
    obtain ⟨x', r, hxr⟩ : ∃ x' r, chxP sc.2 n (8 + b) x = (x', r) := ⟨_, _, rfl⟩
    rw [hxr] at c2 c3 c4 c5 m2 m3 m4 m5 hce
    dsimp only at c2 c3 c4 c5 m2 m3 m4 m5
    have gC' := newpot gC iC fxC (D - πC (8 + b)) (x' := x') (ov' := dec1 ov r) c5 (dec1_le ov r)
    have gM' := newpot gM iM fxM (D - πM (8 + b)) (x' := x') (ov' := dec1 ov r) m5 (dec1_le ov r)
    obtain ⟨σ1, o1, o2, o3⟩ := one_C bC pC.2.2.2 hb hlb c1 hxr c2 c3
    have hsm := sm_dec hb hlb
    -- the reference's side
    have bM1 : ∃ f, lq2 m_pool_L79 (sA τ 65 b (nI (lk b - 1))) (nI (8 + b)) = some (sAr (sA τ 65 b (nI (lk b - 1))) 63 f, nI r) ∧ ∀ i j, i < 8 → j < 8 → f (8 * i + j) = nI (x' i j) := by
      have := br_M n (8 + b) x (sA τ 65 b (nI (lk b - 1))) m1 (fun v hv => by rw [cA_sA, if_neg (by decide)]; exact pM.2.2.2 v hv) (fun i j hi hj => by rw [cA_sA, if_neg (by decide)]; exact bM.2.2.2 i j hi hj) (by omega)
      rw [hce] at this
      exact this
    obtain ⟨f, q1, q2⟩ := bM1
    have e64 : cA (sAr (sA τ 65 b (nI (lk b - 1))) 63 f) 64 r = nI (ov r) := by
      rw [cA_sAr_ne _ (by decide), cA_sA, if_neg (by decide)]; exact bM.1 r c2
    have bM2 : BsP 64 65 66 63 100000000 (sA (sAr (sA τ 65 b (nI (lk b - 1))) 63 f) 64 r (nI (ov r - 1))) cM x' (dec1 ov r) (dec1 lk b) := by
      refine ⟨?_, ?_, ?_, ?_⟩
      · exact dec_A (fun i hi => by rw [cA_sAr_ne _ (by decide), cA_sA, if_neg (by decide)]; exact bM.1 i hi)
      · intro i hi
        rw [cA_sA, if_neg (by decide), cA_sAr_ne _ (by decide)]
        exact dec_A bM.2.1 i hi
      · intro i j hi hj
        rw [cA_sA, if_neg (by decide), cA_sAr_ne _ (by decide), cA_sA, if_neg (by decide)]
        exact bM.2.2.1 i j hi hj
      · intro i j hi hj
        rw [cA_sA, if_neg (by decide), cA_sAr_at]
        exact q2 i j hi hj
    have hkL : k < L0 := by omega
    obtain ⟨t1, t1', σ2, τ2, y1, y2, y3⟩ := PI.mk (σ0 := σ0) (τ0 := τ0) (L0 := L0) (k := k + 1) (cst := cst + D) (lk := dec1 lk b) (by omega) gC' gM' (fun i j => by have := c4 i j; have := hx i j; omega) (fun i => Nat.le_trans (dec1_le ov r i) (ho i)) (fun i => Nat.le_trans (dec1_le lk b i) (hl i)) (fun j hj hlj => hT j hj (Nat.lt_of_lt_of_le hlj (dec1_le lk b j))) o2 bM2 (sC.trans o3) (((sM.wA (by decide)).wAr (by decide)).wA (by decide)) (by omega) (by rw [Nat.mul_add]; omega)
    refine ⟨hkL, σ2, τ2, cst + D, t1, t1', nI (smP (dec1 lk b) 8), ?_, ?_, y3⟩
    · show c_pool_L92 σ (nI cst) (nI b) = _
      unfold c_pool_L92
      rw [if_neg (show ¬ nI b = -9 from nI_n9 (by omega)), show (8 : Int32) + nI b = nI (8 + b) from nI_add 8 b, rdA_nI (by omega) (by decide), B1_some, pC.2.2.1 (8 + b) (by omega), hD, o1, B1_some, y1, B2_some]
      show some (Sum.inl (σ2, nI cst + nI D, t1)) = _
      rw [nI_add]
    · show m_pool_L65 τ (nI (smP lk 8)) (nI cst) (nI (8 + b)) = _
      have e8 : nI (8 + b) - 8 = nI b := by
        rw [show (8 : Int32) = nI 8 from rfl, pk_sub (show 8 ≤ 8 + b by omega), show 8 + b - 8 = b by omega]
      have em : nI (smP lk 8) + -1 = nI (smP (dec1 lk b) 8) := by
        rw [show smP (dec1 lk b) 8 = smP lk 8 - 1 by omega, ← sub1 (show 0 < smP lk 8 by omega), Int32.sub_eq_add_neg]
      unfold m_pool_L65
      rw [if_neg (show ¬ nI (8 + b) < 0 from nI_pos (by omega)), rdA_nI (by omega) (by decide), B1_some, pM.2.2.1 (8 + b) (by omega), hDM, e8, rdA_nI hb (by decide), B1_some, bM.2.1 b hb, wrA_nI hb (by decide), B1_some, sub1 hlb, q1, B2_some, rdA_nI c2 (by decide), B1_some, e64, wrA_nI c2 (by decide), B1_some, sub1 c3, y2, B2_some, em]
      show some (Sum.inl (τ2, _, nI cst + nI D, t1')) = _
      rw [nI_add]
theorem pool_loop (hd : DgP cC cM) {L0 cst : Nat} {t t' cn : Int32} (hL : L0 ≤ 240) (h : PI σ0 τ0 cC cM S T L0 0 σ τ cst t t' cn) : Sim (lq3 c_pool_L92 σ (nI cst) t) (lq4 m_pool_L65 τ cn (nI cst) t') (fun e e' => ScC σ0 e.1 ∧ ScM τ0 e'.1 ∧ e.2 = e'.2.2 ∧ ∃ lk, (∀ i, i < 8 → cA e.1 53 i = nI (lk i)) ∧ e'.2.1 = nI (smP lk 8)) := by
  unfold lq3 lq4
  refine lp_sim L0 (fun k (p : St × Int32 × Int32) (p' : St × Int32 × Int32 × Int32) => ∃ C, p.2.1 = nI C ∧ p'.2.2.1 = nI C ∧ PI σ0 τ0 cC cM S T L0 k p.1 p'.1 C p.2.2 p'.2.2.2 p'.2.1) _ ?_ (i := 0) ⟨cst, rfl, rfl, h⟩
  rintro k ⟨σ1, a1, a2⟩ ⟨τ1, b1, b2, b3⟩ ⟨C, e1, e2, hP⟩
  dsimp only at e1 e2 hP
  subst e1 e2
  rcases pool_step hd hL hP with ⟨h1, h2⟩ | ⟨h1, σ', τ', C', t1, t1', cn', s1, s2, s3⟩
  · subst h1 h2
    obtain ⟨x, ov, lk, πC, πM, nC, nM, gC, gM, hx, ho, hl, hT, bC, bM, pC, pM, fC, fM, sC, sM, r1, r2, hLk, r3, hcst⟩ := hP
    refine Or.inr ⟨(σ1, nI C), (τ1, b1, nI C), ?_, ?_, sC, sM, rfl, lk, bC.2.1, r3⟩
    · show c_pool_L92 σ1 (nI C) (-9) = _
      unfold c_pool_L92
      rw [if_pos rfl]
    · show m_pool_L65 τ1 b1 (nI C) (-9) = _
      unfold m_pool_L65
      rw [if_pos k9l]
  · exact Or.inl ⟨h1, (σ', nI C', t1), (τ', cn', nI C', t1'), s1, s2, C', rfl, rfl, s3⟩
theorem L105_C (h : ∀ i, i < 8 → cA σ 53 i = nI (lk i)) : lq2 (c_pool_L105 σ) 0 0 = some (nI (smP lk 8)) := by
  have key : ∃ e, lq2 (c_pool_L105 σ) 0 0 = some e ∧ e = nI (smP lk 8) := by
    unfold lq2
    refine lp_forI 8 (fun k (p : Int32 × Int32) => k ≤ 8 ∧ p = (nI (smP lk k), nI k)) _ ?_ (i := 0) ⟨by omega, rfl⟩
    rintro k p ⟨hk, rfl⟩
    by_cases h8 : k = 8
    · subst h8
      exact Or.inr ⟨_, by show c_pool_L105 σ _ (nI 8) = _; unfold c_pool_L105; rw [if_pos (by decide)], rfl⟩
    · have hk2 : k < 8 := by omega
      refine Or.inl ⟨hk2, (nI (smP lk (k + 1)), nI (k + 1)), ?_, by omega, rfl⟩
      show c_pool_L105 σ (nI (smP lk k)) (nI k) = _
      unfold c_pool_L105
      rw [if_neg (ge8 hk2), rdA_nI hk2 (by decide), B1_some, h k hk2, nI_add, nI_1]
      rfl
  obtain ⟨e, k1, rfl⟩ := key
  exact k1
end Pool5
