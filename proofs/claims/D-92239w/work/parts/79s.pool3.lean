/-! plain law: pool, the loops compute the search -/
section Pool3
variable {σ σ' σ0 τ τ' τ0 : St} {c : Nat → Nat → Option Nat} {x : Nat → Nat → Nat} {ov : Nat → Nat} {S T : Nat → Prop} {π : Nat → Nat} {s : Dp}
noncomputable def gL21 (ic id_ : Int32 → Prop) [DecidablePred ic] [DecidablePred id_] (A4 A5 A6 A7 : Nat) (σ22 : St) (x23 : Int32) (x24 : Int32) : Option ((St × Int32 × Int32) ⊕ (St × Int32)) :=
  if 64 ≤ x24 then
    (some (Sum.inr (σ22, x23)))
  else
    (B1 (rdA 64 σ22 A4 x24) fun v27 =>
    B2 ((if ic v27 then
        (some (σ22, x23))
      else
        (B1 (rdA 16 σ22 A6 (x24 / 8)) fun v32 =>
        if id_ v32 then
          (some (σ22, x23))
        else
          (B1 (rdA 16 σ22 A6 (x24 / 8)) fun v34 =>
          B1 (rdA 64 σ22 A4 x24) fun v36 =>
          B1 (rdA 16 σ22 A6 (8 + (x24 - x24 / 8 * 8))) fun v38 =>
          if v38 ≤ (v34 + v36) then
            (some (σ22, x23))
          else
            (B1 (rdA 16 σ22 A6 (x24 / 8)) fun v40 =>
            B1 (rdA 64 σ22 A4 x24) fun v42 =>
            B1 (wrA 16 σ22 A6 (8 + (x24 - x24 / 8 * 8)) (v40 + v42)) fun σ44 =>
            B1 (wrA 16 σ44 A7 (8 + (x24 - x24 / 8 * 8)) (x24 / 8)) fun σ46 =>
            some (σ46, 1))))) : Option (St × Int32)) fun σ30 x31 =>
    B1 (rdA 64 σ30 A5 x24) fun v48 =>
    B2 ((if v48 ≤ 0 then
        (some (σ30, x31))
      else
        (B1 (rdA 16 σ30 A6 (8 + (x24 - x24 / 8 * 8))) fun v53 =>
        if id_ v53 then
          (some (σ30, x31))
        else
          (B1 (rdA 16 σ30 A6 (8 + (x24 - x24 / 8 * 8))) fun v55 =>
          B1 (rdA 64 σ30 A4 x24) fun v57 =>
          B1 (rdA 16 σ30 A6 (x24 / 8)) fun v59 =>
          if v59 ≤ (v55 - v57) then
            (some (σ30, x31))
          else
            (B1 (rdA 16 σ30 A6 (8 + (x24 - x24 / 8 * 8))) fun v61 =>
            B1 (rdA 64 σ30 A4 x24) fun v63 =>
            B1 (wrA 16 σ30 A6 (x24 / 8) (v61 - v63)) fun σ65 =>
            B1 (wrA 16 σ65 A7 (x24 / 8) (8 + (x24 - x24 / 8 * 8))) fun σ67 =>
            some (σ67, 1))))) : Option (St × Int32)) fun σ51 x52 =>
    some (Sum.inl (σ51, x52, x24 + 1)))
theorem gL21_C : c_cheapestWay_L21 = gL21 (fun v => v = -9) (fun v => v = 1000000000) 54 55 56 57 := rfl
theorem gL21_M : m_nextBrought_L21 = gL21 (fun v => 100000000 ≤ v) (fun v => 100000000 ≤ v) 66 63 67 68 := rfl
def enc (N : Int32) : Option Nat → Int32
  | none => N
  | some w => nI w
/-- how a side writes its numbers -/
def PEn (ic id_ : Int32 → Prop) (cN dN : Int32) : Prop :=
  (ic cN) ∧ (∀ w, w ≤ 28000 → ¬ ic (nI w)) ∧ (id_ dN) ∧ (∀ u, u ≤ 448000 → ¬ id_ (nI u)) ∧ (∀ u, u ≤ 500000 → ¬ dN ≤ nI u)
theorem PEn.c0 {ic id_ : Int32 → Prop} {cN dN : Int32} (h : PEn ic id_ cN dN) : ic cN := h.1
theorem PEn.c1 {ic id_ : Int32 → Prop} {cN dN : Int32} (h : PEn ic id_ cN dN) : ∀ w, w ≤ 28000 → ¬ ic (nI w) := h.2.1
theorem PEn.n0 {ic id_ : Int32 → Prop} {cN dN : Int32} (h : PEn ic id_ cN dN) : id_ dN := h.2.2.1
theorem PEn.n1 {ic id_ : Int32 → Prop} {cN dN : Int32} (h : PEn ic id_ cN dN) : ∀ u, u ≤ 448000 → ¬ id_ (nI u) := h.2.2.2.1
theorem PEn.n2 {ic id_ : Int32 → Prop} {cN dN : Int32} (h : PEn ic id_ cN dN) : ∀ u, u ≤ 500000 → ¬ dN ≤ nI u := h.2.2.2.2
def AR (A4 A5 A6 A7 : Nat) : Prop :=
  (A4 ≠ A6) ∧ (A4 ≠ A7) ∧ (A5 ≠ A6) ∧ (A5 ≠ A7) ∧ (A6 ≠ A7)
theorem AR.a46 {A4 A5 A6 A7 : Nat} (h : AR A4 A5 A6 A7) : A4 ≠ A6 := h.1
theorem AR.a47 {A4 A5 A6 A7 : Nat} (h : AR A4 A5 A6 A7) : A4 ≠ A7 := h.2.1
theorem AR.a56 {A4 A5 A6 A7 : Nat} (h : AR A4 A5 A6 A7) : A5 ≠ A6 := h.2.2.1
theorem AR.a57 {A4 A5 A6 A7 : Nat} (h : AR A4 A5 A6 A7) : A5 ≠ A7 := h.2.2.2.1
theorem AR.a67 {A4 A5 A6 A7 : Nat} (h : AR A4 A5 A6 A7) : A6 ≠ A7 := h.2.2.2.2
def PP (A4 A5 A6 A7 : Nat) (cN dN : Int32) (σ : St) (c : Nat → Nat → Option Nat) (x : Nat → Nat → Nat) (s : Dp) : Prop :=
  (∀ i j, i < 8 → j < 8 → cA σ A4 (8 * i + j) = enc cN (c i j)) ∧ (∀ i j, i < 8 → j < 8 → cA σ A5 (8 * i + j) = nI (x i j)) ∧ (∀ v, v < 16 → cA σ A6 v = enc dN (s.1 v)) ∧ ∀ v, v < 16 → cA σ A7 v = e9 (s.2 v)
/-- only the two search arrays have changed -/
def F2 (A6 A7 : Nat) (σ σ' : St) : Prop := ∃ f g, σ' = sAr (sAr σ A6 f) A7 g
theorem F2.refl {A6 A7 : Nat} (h : A6 ≠ A7) : F2 A6 A7 σ σ := ⟨cA σ A6, cA σ A7, by rw [sAr_self, sAr_self]⟩
theorem sAr_cm {a b : Nat} (hne : a ≠ b) (σ : St) (f g : Nat → Int32) : sAr (sAr σ a f) b g = sAr (sAr σ b g) a f := by
  show (σ.1, σ.2.1, va_up (va_up σ.2.2.1 a f) b g, σ.2.2.2) = (σ.1, σ.2.1, va_up (va_up σ.2.2.1 b g) a f, σ.2.2.2)
  have : va_up (va_up σ.2.2.1 a f) b g = va_up (va_up σ.2.2.1 b g) a f := by
    funext k
    unfold va_up
    by_cases q : k = b
    · subst q; simp [Ne.symm hne]
    · simp [q]
  rw [this]
theorem F2.trans {A6 A7 : Nat} {σ2 : St} (hne : A6 ≠ A7) (h : F2 A6 A7 σ σ') (k : F2 A6 A7 σ' σ2) : F2 A6 A7 σ σ2 := by
  obtain ⟨f, g, rfl⟩ := h
  obtain ⟨f', g', rfl⟩ := k
  exact ⟨f', g', by rw [sAr_cm (Ne.symm hne), sAr_sAr, sAr_sAr]⟩
theorem sA_6 {A6 A7 i : Nat} {f g : Nat → Int32} {v : Int32} (hne : A6 ≠ A7) : sA (sAr (sAr σ A6 f) A7 g) A6 i v = sAr (sAr σ A6 (upd f i v)) A7 g := by
  show sAr (sAr (sAr σ A6 f) A7 g) A6 (upd (cA (sAr (sAr σ A6 f) A7 g) A6) i v) = _
  rw [cA_sAr_ne _ hne, cA_sAr_at, sAr_cm (Ne.symm hne), sAr_sAr]
variable {cN dN : Int32} {A4 A5 A6 A7 : Nat}
theorem PP.wr (hA : AR A4 A5 A6 A7) (h : PP A4 A5 A6 A7 cN dN σ c x s) {a b t : Nat} (hb : b < 16) : PP A4 A5 A6 A7 cN dN (sA (sA σ A6 b (nI t)) A7 b (nI a)) c x (set1P s b a t) := by
  obtain ⟨h1, h2, h3, h4⟩ := h
  refine ⟨fun i j hi hj => ?_, fun i j hi hj => ?_, fun v hv => ?_, fun v hv => ?_⟩
  · rw [cA_sA, if_neg hA.a47, cA_sA, if_neg hA.a46]; exact h1 i j hi hj
  · rw [cA_sA, if_neg hA.a57, cA_sA, if_neg hA.a56]; exact h2 i j hi hj
  · rw [cA_sA, if_neg hA.a67, cA_sA, if_pos rfl]
    by_cases q : v = b
    · rw [q, upd_at, set1_at]; rfl
    · rw [upd_ne _ q, set1_ne s a t q]; exact h3 v hv
  · rw [cA_sA, if_pos rfl, cA_sA, if_neg (Ne.symm hA.a67)]
    by_cases q : v = b
    · rw [q, upd_at, set2_at]; rfl
    · rw [upd_ne _ q, set2_ne s a t q]; exact h4 v hv
theorem F2.wr {b : Nat} {u v : Int32} (hne : A6 ≠ A7) : F2 A6 A7 σ (sA (sA σ A6 b u) A7 b v) := ⟨upd (cA σ A6) b u, upd (cA σ A7) b v, by
  unfold sA
  congr 1
  show upd (cA (sAr σ A6 (upd (cA σ A6) b u)) A7) b v = _
  rw [cA_sAr_ne _ (Ne.symm hne)]⟩
theorem dv8 {k : Nat} (hk : k < 64) : nI k / 8 = nI (k / 8) := pk_div (d := 8) (by omega) (by decide) (by decide)
theorem md8 {k : Nat} (hk : k < 64) : 8 + (nI k - nI (k / 8) * 8) = nI (8 + k % 8) := by
  have : nI k - nI (k / 8) * 8 = nI (k % 8) := by
    rw [← dv8 hk]
    exact pk_rem (d := 8) (by omega) (by decide) (by decide)
  rw [this]
  exact nI_add 8 (k % 8)
theorem gL21_step {ic id_ : Int32 → Prop} [DecidablePred ic] [DecidablePred id_] (hE : PEn ic id_ cN dN) (hA : AR A4 A5 A6 A7) (g : GrP c x ov S T π) (hx : ∀ i j, x i j < 2 ^ 31) {fl : Bool} (hI : IvP c x ov S π s) (h : PP A4 A5 A6 A7 cN dN σ c x s) {k : Nat} (hk : k < 64) :
    ∃ σ', gL21 ic id_ A4 A5 A6 A7 σ (b01 fl) (nI k) = some (Sum.inl (σ', b01 (st1P c x k (s, fl)).2, nI k + 1)) ∧ PP A4 A5 A6 A7 cN dN σ' c x (st1P c x k (s, fl)).1 ∧ F2 A6 A7 σ σ' := by
  have hi : k / 8 < 8 := by omega
  have hj : k % 8 < 8 := by omega
  have hk8 : 8 * (k / 8) + k % 8 = k := by omega
  have r4 : ∀ σ s, PP A4 A5 A6 A7 cN dN σ c x s → rdA 64 σ A4 (nI k) = some (enc cN (c (k / 8) (k % 8))) := fun σ s h => by
    have := h.1 (k / 8) (k % 8) hi hj
    rw [hk8] at this
    rw [rdA_nI hk (by decide), this]
  have r5 : ∀ σ s, PP A4 A5 A6 A7 cN dN σ c x s → rdA 64 σ A5 (nI k) = some (nI (x (k / 8) (k % 8))) := fun σ s h => by
    have := h.2.1 (k / 8) (k % 8) hi hj
    rw [hk8] at this
    rw [rdA_nI hk (by decide), this]
  have r6 : ∀ σ s v, v < 16 → PP A4 A5 A6 A7 cN dN σ c x s → rdA 16 σ A6 (nI v) = some (enc dN (s.1 v)) := fun σ s v hv h => by
    rw [rdA_nI hv (by decide), h.2.2.1 v hv]
  obtain ⟨K1, K2⟩ := st1_kp g (s := (s, fl)) hI hk
  unfold gL21
  rw [if_neg (ge64 hk), dv8 hk, md8 hk]
  have B1e : ∃ σ1, ((if ic (enc cN (c (k / 8) (k % 8))) then
        (some (σ, b01 fl))
      else
        (B1 (rdA 16 σ A6 (nI (k / 8))) fun v32 =>
        if id_ v32 then
          (some (σ, b01 fl))
        else
          (B1 (rdA 16 σ A6 (nI (k / 8))) fun v34 =>
          B1 (rdA 64 σ A4 (nI k)) fun v36 =>
          B1 (rdA 16 σ A6 (nI (8 + k % 8))) fun v38 =>
          if v38 ≤ (v34 + v36) then
            (some (σ, b01 fl))
          else
            (B1 (rdA 16 σ A6 (nI (k / 8))) fun v40 =>
            B1 (rdA 64 σ A4 (nI k)) fun v42 =>
            B1 (wrA 16 σ A6 (nI (8 + k % 8)) (v40 + v42)) fun σ44 =>
            B1 (wrA 16 σ44 A7 (nI (8 + k % 8)) (nI (k / 8))) fun σ46 =>
            some (σ46, 1))))) : Option (St × Int32)) = some (σ1, b01 (rlxP (s, fl) (k / 8) (8 + k % 8) (cfP c (k / 8) (k % 8) s.1)).2) ∧ PP A4 A5 A6 A7 cN dN σ1 c x (rlxP (s, fl) (k / 8) (8 + k % 8) (cfP c (k / 8) (k % 8) s.1)).1 ∧ F2 A6 A7 σ σ1 := by
    rw [r6 σ s (k / 8) (by omega) h, r6 σ s (8 + k % 8) (by omega) h, r4 σ s h]
    unfold cfP
    cases hc : c (k / 8) (k % 8) with
    | none =>
      rw [if_pos (show ic (enc cN none) from hE.c0)]
      exact ⟨σ, rfl, h, F2.refl hA.a67⟩
    | some w =>
      have hw := g.c28 _ _ _ hc
      rw [if_neg (show ¬ ic (enc cN (some w)) from hE.c1 w hw), B1_some]
      cases hs : s.1 (k / 8) with
      | none =>
        rw [if_pos (show id_ (enc dN none) from hE.n0)]
        exact ⟨σ, rfl, h, F2.refl hA.a67⟩
      | some u =>
        have hu := hI.b44 hs
        rw [if_neg (show ¬ id_ (enc dN (some u)) from hE.n1 u hu), B1_some, B1_some, B1_some]
        show ∃ σ1, (if enc dN (s.1 (8 + k % 8)) ≤ nI u + nI w then _ else _) = some (σ1, b01 (rlxP (s, fl) (k / 8) (8 + k % 8) (some (u + w))).2) ∧ PP A4 A5 A6 A7 cN dN σ1 c x (rlxP (s, fl) (k / 8) (8 + k % 8) (some (u + w))).1 ∧ F2 A6 A7 σ σ1
        rw [nI_add, rlxP]
        have hlt : enc dN (s.1 (8 + k % 8)) ≤ nI (u + w) ↔ ¬ ltO (u + w) (s.1 (8 + k % 8)) = true := by
          cases ht : s.1 (8 + k % 8) with
          | none =>
            constructor
            · intro q; exact absurd q (hE.n2 (u + w) (by omega))
            · intro q; exact absurd rfl q
          | some t =>
            have hb := hI.b44 ht
            show nI t ≤ nI (u + w) ↔ ¬ decide (u + w < t) = true
            rw [decide_eq_true_eq]
            constructor
            · intro q q2; exact nI_ge q2 (by omega) q
            · intro q; exact nI_le (by omega) (by omega)
        by_cases q : ltO (u + w) (s.1 (8 + k % 8)) = true
        · rw [if_neg (fun z => hlt.mp z q), B1_some, B1_some]
          show ∃ σ1, (B1 (wrA 16 σ A6 (nI (8 + k % 8)) (nI u + nI w)) _) = some (σ1, _) ∧ _
          rw [wrA_nI (by omega) (by decide), B1_some, wrA_nI (by omega) (by decide), B1_some, nI_add, if_pos q]
          exact ⟨_, rfl, h.wr hA (by omega), F2.wr hA.a67⟩
        · rw [if_pos (hlt.mpr q), if_neg q]
          exact ⟨σ, rfl, h, F2.refl hA.a67⟩
  obtain ⟨σ1, b1, b2, b3⟩ := B1e
  rw [r4 σ s h, B1_some]
  generalize hs1 : rlxP (s, fl) (k / 8) (8 + k % 8) (cfP c (k / 8) (k % 8) s.1) = s1 at b1 b2
  have hst : st1P c x k (s, fl) = rlxP s1 (8 + k % 8) (k / 8) (crP c x (k / 8) (k % 8) s1.1.1) := by
    rw [← hs1]; rfl
  have hI1 : IvP c x ov S π s1.1 := by rw [← hs1]; exact K1.1
  rw [hst]
  have B2e : ∃ σ2, ((if nI (x (k / 8) (k % 8)) ≤ 0 then
        (some (σ1, b01 s1.2))
      else
        (B1 (rdA 16 σ1 A6 (nI (8 + k % 8))) fun v53 =>
        if id_ v53 then
          (some (σ1, b01 s1.2))
        else
          (B1 (rdA 16 σ1 A6 (nI (8 + k % 8))) fun v55 =>
          B1 (rdA 64 σ1 A4 (nI k)) fun v57 =>
          B1 (rdA 16 σ1 A6 (nI (k / 8))) fun v59 =>
          if v59 ≤ (v55 - v57) then
            (some (σ1, b01 s1.2))
          else
            (B1 (rdA 16 σ1 A6 (nI (8 + k % 8))) fun v61 =>
            B1 (rdA 64 σ1 A4 (nI k)) fun v63 =>
            B1 (wrA 16 σ1 A6 (nI (k / 8)) (v61 - v63)) fun σ65 =>
            B1 (wrA 16 σ65 A7 (nI (k / 8)) (nI (8 + k % 8))) fun σ67 =>
            some (σ67, 1))))) : Option (St × Int32)) = some (σ2, b01 (rlxP s1 (8 + k % 8) (k / 8) (crP c x (k / 8) (k % 8) s1.1.1)).2) ∧ PP A4 A5 A6 A7 cN dN σ2 c x (rlxP s1 (8 + k % 8) (k / 8) (crP c x (k / 8) (k % 8) s1.1.1)).1 ∧ F2 A6 A7 σ1 σ2 := by
    rw [r6 σ1 s1.1 (k / 8) (by omega) b2, r6 σ1 s1.1 (8 + k % 8) (by omega) b2, r4 σ1 s1.1 b2]
    unfold crP
    by_cases hx0 : x (k / 8) (k % 8) = 0
    · rw [hx0, if_pos (show nI 0 ≤ 0 by decide), if_pos rfl]
      exact ⟨σ1, rfl, b2, F2.refl hA.a67⟩
    · rw [if_neg (show ¬ nI (x (k / 8) (k % 8)) ≤ 0 from nI_ge (b := x (k / 8) (k % 8)) (a := 0) (by omega) (hx _ _)), if_neg hx0]
      obtain ⟨-, -, w, hc, hpi⟩ := g.xc _ _ hi hj (Nat.pos_of_ne_zero hx0)
      have hw := g.c28 _ _ _ hc
      rw [hc, B1_some]
      cases hs : s1.1.1 (8 + k % 8) with
      | none =>
        rw [if_pos (show id_ (enc dN none) from hE.n0)]
        exact ⟨σ1, rfl, b2, F2.refl hA.a67⟩
      | some u =>
        have hu := hI1.b44 hs
        have hlo := (hI1.lo _ _ hs).2
        have hwu : w ≤ u := by omega
        rw [if_neg (show ¬ id_ (enc dN (some u)) from hE.n1 u hu), B1_some, B1_some, B1_some]
        show ∃ σ1_1, (if enc dN (s1.1.1 (k / 8)) ≤ nI u - nI w then _ else _) = some (σ1_1, b01 (rlxP s1 (8 + k % 8) (k / 8) (some (u - w))).2) ∧ PP A4 A5 A6 A7 cN dN σ1_1 c x (rlxP s1 (8 + k % 8) (k / 8) (some (u - w))).1 ∧ F2 A6 A7 σ1 σ1_1
        rw [pk_sub hwu, rlxP]
        have hlt : enc dN (s1.1.1 (k / 8)) ≤ nI (u - w) ↔ ¬ ltO (u - w) (s1.1.1 (k / 8)) = true := by
          cases ht : s1.1.1 (k / 8) with
          | none =>
            constructor
            · intro q; exact absurd q (hE.n2 (u - w) (by omega))
            · intro q; exact absurd rfl q
          | some t =>
            have hb := hI1.b44 ht
            show nI t ≤ nI (u - w) ↔ ¬ decide (u - w < t) = true
            rw [decide_eq_true_eq]
            constructor
            · intro q q2; exact nI_ge q2 (by omega) q
            · intro q; exact nI_le (by omega) (by omega)
        by_cases q : ltO (u - w) (s1.1.1 (k / 8)) = true
        · rw [if_neg (fun z => hlt.mp z q), B1_some, B1_some]
          show ∃ σ1_1, (B1 (wrA 16 σ1 A6 (nI (k / 8)) (nI u - nI w)) _) = some (σ1_1, _) ∧ _
          rw [wrA_nI (by omega) (by decide), B1_some, wrA_nI (by omega) (by decide), B1_some, pk_sub hwu, if_pos q]
          exact ⟨_, rfl, b2.wr hA (by omega), F2.wr hA.a67⟩
        · rw [if_pos (hlt.mpr q), if_neg q]
          exact ⟨σ1, rfl, b2, F2.refl hA.a67⟩
  obtain ⟨σ2, e1, e2, e3⟩ := B2e
  refine ⟨σ2, ?_, e2, b3.trans hA.a67 e3⟩
  rw [r4 σ s h] at b1
  rw [b1, B2_some, r5 σ1 s1.1 b2, B1_some, e1, B2_some]
theorem gL21_pass {ic id_ : Int32 → Prop} [DecidablePred ic] [DecidablePred id_] (hE : PEn ic id_ cN dN) (hA : AR A4 A5 A6 A7) (g : GrP c x ov S T π) (hx : ∀ i j, x i j < 2 ^ 31) (hI : IvP c x ov S π s) (h : PP A4 A5 A6 A7 cN dN σ c x s) :
    ∃ σ', lq3 (gL21 ic id_ A4 A5 A6 A7) σ 0 0 = some (σ', b01 (psP c x 64 s).2) ∧ PP A4 A5 A6 A7 cN dN σ' c x (psP c x 64 s).1 ∧ F2 A6 A7 σ σ' := by
  have key : ∃ e, lq3 (gL21 ic id_ A4 A5 A6 A7) σ 0 0 = some e ∧ e.2 = b01 (psP c x 64 s).2 ∧ PP A4 A5 A6 A7 cN dN e.1 c x (psP c x 64 s).1 ∧ F2 A6 A7 σ e.1 := by
    unfold lq3
    refine lp_forI 64 (fun k (p : St × Int32 × Int32) => k ≤ 64 ∧ p.2.2 = nI k ∧ p.2.1 = b01 (psP c x k s).2 ∧ PP A4 A5 A6 A7 cN dN p.1 c x (psP c x k s).1 ∧ F2 A6 A7 σ p.1) _ ?_ (i := 0) ⟨by omega, nI_0.symm, rfl, h, F2.refl hA.a67⟩
    rintro k ⟨σ1, a, b⟩ ⟨hk, hb, ha, hP, hF⟩
    dsimp only at hb ha hP hF
    subst hb ha
    by_cases h64 : k = 64
    · subst h64
      refine Or.inr ⟨(σ1, b01 (psP c x 64 s).2), ?_, rfl, hP, hF⟩
      show gL21 ic id_ A4 A5 A6 A7 σ1 _ (nI 64) = _
      unfold gL21
      rw [if_pos (by decide)]
    · obtain ⟨σ2, e1, e2, e3⟩ := gL21_step hE hA g hx (fl := (psP c x k s).2) ((ps_kp g hI k (by omega)).1) hP (show k < 64 by omega)
      exact Or.inl ⟨by omega, _, e1, by omega, nI_1 k, rfl, e2, hF.trans hA.a67 e3⟩
  obtain ⟨⟨σ', b⟩, k1, k2, k3, k4⟩ := key
  dsimp only at k2 k3 k4
  subst k2
  exact ⟨σ', k1, k3, k4⟩
theorem gL17_is {ic id_ : Int32 → Prop} [DecidablePred ic] [DecidablePred id_] (hE : PEn ic id_ cN dN) (hA : AR A4 A5 A6 A7) (g : GrP c x ov S T π) (hx : ∀ i j, x i j < 2 ^ 31) (hI : IvP c x ov S π s) (h : PP A4 A5 A6 A7 cN dN σ c x s) {step : St → Int32 → Option ((St × Int32) ⊕ St)} (hst : ∀ s y, step s y = if y = 0 then some (Sum.inr s) else B2 (lq3 (gL21 ic id_ A4 A5 A6 A7) s 0 0) fun s' f => some (Sum.inl (s', f))) :
    ∃ n σ', lq2 step σ 1 = some σ' ∧ PP A4 A5 A6 A7 cN dN σ' c x (itpP c x n s) ∧ (psP c x 64 (itpP c x n s)).2 = false ∧ F2 A6 A7 σ σ' := by
  have key : ∃ e, lq2 step σ 1 = some e ∧ ∃ n, PP A4 A5 A6 A7 cN dN e c x (itpP c x n s) ∧ (psP c x 64 (itpP c x n s)).2 = false ∧ F2 A6 A7 σ e := by
    unfold lq2
    refine lp_forI 8000001 (fun i (q : St × Int32) => ∃ fl, q.2 = b01 fl ∧ PP A4 A5 A6 A7 cN dN q.1 c x (itpP c x i s) ∧ F2 A6 A7 σ q.1 ∧ (fl = true → mesP (itpP c x i s).1 + i ≤ 8000000) ∧ (fl = false → ∃ m, i = m + 1 ∧ (psP c x 64 (itpP c x m s)).2 = false)) _ ?_ (i := 0) ⟨true, rfl, h, F2.refl hA.a67, fun _ => (by show mesP s.1 + 0 ≤ 8000000; have := mes_le hI; omega), fun q => (by cases q)⟩
    rintro i ⟨σ1, y⟩ ⟨fl, hy, hP, hF, h1, h2⟩
    dsimp only at hy hP hF
    subst hy
    cases fl with
    | false =>
      obtain ⟨m, rfl, hm⟩ := h2 rfl
      refine Or.inr ⟨σ1, ?_, m, ?_, hm, hF⟩
      · show step σ1 0 = _
        rw [hst, if_pos k00]
      · have := itp_st hm 1
        rw [← this]
        exact hP
    | true =>
      have hm := h1 rfl
      have hIi := itp_iv g hI i
      obtain ⟨σ2, e1, e2, e3⟩ := gL21_pass hE hA g hx hIi hP
      refine Or.inl ⟨by omega, (σ2, b01 (psP c x 64 (itpP c x i s)).2), ?_, (psP c x 64 (itpP c x i s)).2, rfl, e2, hF.trans hA.a67 e3, fun q => ?_, fun q => ⟨i, rfl, q⟩⟩
      · show step σ1 1 = _
        rw [hst, if_neg k10, e1, B2_some]
      · have hk := (ps_kp g hIi 64 (by omega)).2.1
        rw [q, if_pos rfl] at hk
        have hk' : mesP (itpP c x (i + 1) s).1 + 1 ≤ mesP (itpP c x i s).1 + 0 := hk
        omega
  obtain ⟨e, k1, n, k2, k3, k4⟩ := key
  exact ⟨n, e, k1, k2, k3, k4⟩
/-- the start of a search -/
theorem gL1_is {A2 : Nat} (hA : AR A4 A5 A6 A7) (h26 : A2 ≠ A6) (h27 : A2 ≠ A7) (hov : ∀ i, i < 8 → cA σ A2 i = nI (ov i) ∧ ov i < 2 ^ 31) (h4 : ∀ i j, i < 8 → j < 8 → cA σ A4 (8 * i + j) = enc cN (c i j)) (h5 : ∀ i j, i < 8 → j < 8 → cA σ A5 (8 * i + j) = nI (x i j)) {step : St → Int32 → Option ((St × Int32) ⊕ St)} (hst : ∀ s y, step s y = if 8 ≤ y then some (Sum.inr s) else B1 (rdA 8 s A2 y) fun v5 => B1 ((if v5 ≤ 0 then some dN else some 0) : Option Int32) fun x8 => B1 (wrA 16 s A6 y x8) fun σ9 => B1 (wrA 16 σ9 A6 (8 + y) dN) fun σ11 => B1 (wrA 16 σ11 A7 y (-9)) fun σ13 => B1 (wrA 16 σ13 A7 (8 + y) (-9)) fun σ15 => some (Sum.inl (σ15, y + 1))) :
    ∃ σ', lq2 step σ 0 = some σ' ∧ PP A4 A5 A6 A7 cN dN σ' c x (d0P ov) ∧ F2 A6 A7 σ σ' := by
  have key : ∃ e, lq2 step σ 0 = some e ∧ ∃ f g', e = sAr (sAr σ A6 f) A7 g' ∧ ∀ v, v < 8 → f v = enc dN ((d0P ov).1 v) ∧ f (8 + v) = dN ∧ g' v = -9 ∧ g' (8 + v) = -9 := by
    unfold lq2
    refine lp_forI 8 (fun i (q : St × Int32) => i ≤ 8 ∧ q.2 = nI i ∧ ∃ f g', q.1 = sAr (sAr σ A6 f) A7 g' ∧ ∀ v, v < i → f v = enc dN ((d0P ov).1 v) ∧ f (8 + v) = dN ∧ g' v = -9 ∧ g' (8 + v) = -9) _ ?_ (i := 0) ⟨by omega, nI_0.symm, cA σ A6, cA σ A7, by rw [sAr_self, sAr_self], fun v hv => absurd hv (Nat.not_lt_zero v)⟩
    rintro i ⟨s1, y⟩ ⟨hi, hy, f, g', hs, hf⟩
    dsimp only at hy hs
    subst hy hs
    by_cases h8 : i = 8
    · subst h8
      exact Or.inr ⟨_, by show step _ (nI 8) = _; rw [hst, if_pos (by decide)], f, g', rfl, hf⟩
    · have hi2 : i < 8 := by omega
      have hv : ((if nI (ov i) ≤ 0 then some dN else some 0) : Option Int32) = some (enc dN ((d0P ov).1 i)) := by
        show _ = some (enc dN (if i < 8 ∧ 0 < ov i then some 0 else none))
        by_cases q : ov i = 0
        · rw [q, if_pos (show nI 0 ≤ 0 by decide), if_neg (by omega)]; rfl
        · rw [if_neg (show ¬ nI (ov i) ≤ 0 from nI_ge (b := ov i) (a := 0) (by omega) (hov i hi2).2), if_pos ⟨hi2, by omega⟩]; rfl
      have e2 : cA (sAr (sAr σ A6 f) A7 g') A2 i = nI (ov i) := by
        rw [cA_sAr_ne _ h27, cA_sAr_ne _ h26]; exact (hov i hi2).1
      have eq4 : sA (sA (sA (sA (sAr (sAr σ A6 f) A7 g') A6 i (enc dN ((d0P ov).1 i))) A6 (8 + i) dN) A7 i (-9)) A7 (8 + i) (-9) = sAr (sAr σ A6 (upd (upd f i (enc dN ((d0P ov).1 i))) (8 + i) dN)) A7 (upd (upd g' i (-9)) (8 + i) (-9)) := by
        rw [sA_6 hA.a67, sA_6 hA.a67, sA_sAr, sA_sAr]
      refine Or.inl ⟨hi2, (sA (sA (sA (sA (sAr (sAr σ A6 f) A7 g') A6 i (enc dN ((d0P ov).1 i))) A6 (8 + i) dN) A7 i (-9)) A7 (8 + i) (-9), nI i + 1), ?_, by omega, nI_1 i, _, _, eq4, fun v hv => ?_⟩
      · show step _ (nI i) = _
        rw [hst, if_neg (ge8 hi2), rdA_nI hi2 (by decide), B1_some, e2, hv, B1_some, wrA_nI (by omega) (by decide), B1_some, show (8 : Int32) + nI i = nI (8 + i) from nI_add 8 i, wrA_nI (by omega) (by decide), B1_some, wrA_nI (by omega) (by decide), B1_some, wrA_nI (by omega) (by decide), B1_some]
      · by_cases q : v = i
        · subst q
          rw [upd_ne _ (show v ≠ 8 + v by omega), upd_at, upd_at, upd_ne _ (show v ≠ 8 + v by omega), upd_at, upd_at]
          exact ⟨rfl, rfl, rfl, rfl⟩
        · obtain ⟨k1, k2, k3, k4⟩ := hf v (by omega)
          rw [upd_ne _ (show v ≠ 8 + i by omega), upd_ne _ q, upd_ne _ (show 8 + v ≠ 8 + i by omega), upd_ne _ (show 8 + v ≠ i by omega), upd_ne _ (show v ≠ 8 + i by omega), upd_ne _ q, upd_ne _ (show 8 + v ≠ 8 + i by omega), upd_ne _ (show 8 + v ≠ i by omega)]
          exact ⟨k1, k2, k3, k4⟩
  obtain ⟨e, k1, f, g', rfl, k2⟩ := key
  refine ⟨_, k1, ⟨fun i j hi hj => ?_, fun i j hi hj => ?_, fun v hv => ?_, fun v hv => ?_⟩, f, g', rfl⟩
  · rw [cA_sAr_ne _ hA.a47, cA_sAr_ne _ hA.a46]; exact h4 i j hi hj
  · rw [cA_sAr_ne _ hA.a57, cA_sAr_ne _ hA.a56]; exact h5 i j hi hj
  · rw [cA_sAr_ne _ hA.a67, cA_sAr_at]
    by_cases q : v < 8
    · exact (k2 v q).1
    · have := (k2 (v - 8) (by omega)).2.1
      rw [show 8 + (v - 8) = v by omega] at this
      rw [this]
      show _ = enc dN (if v < 8 ∧ 0 < ov v then some 0 else none)
      rw [if_neg (by omega)]; rfl
  · rw [cA_sAr_at]
    by_cases q : v < 8
    · exact (k2 v q).2.2.1
    · have := (k2 (v - 8) (by omega)).2.2.2
      rw [show 8 + (v - 8) = v by omega] at this
      exact this
end Pool3
