/-! plain law: look, the class' search -/
section Look2
variable {σ σ' σ0 τ τ' τ0 : St} {rr : Nat}
noncomputable def co (τ0 : St) (a s b : Nat) : Option Nat :=
  match m_comesTo τ0 (nI a) (nI s) (nI b) with
  | none => none
  | some p => if p.1 = 100000000 then none else some (nN p.1)
theorem co_eq {a s b : Nat} {o : Option Nat} {τ1 : St} (h : m_comesTo τ0 (nI a) (nI s) (nI b) = some (eM o, τ1)) (hb : ∀ t, o = some t → t < 100000000) : co τ0 a s b = o := by
  unfold co
  rw [h]
  cases o with
  | none => exact if_pos rfl
  | some t =>
    have ht := hb t rfl
    show (if eM (some t) = 100000000 then none else some (nN (nI t))) = _
    rw [if_neg (eM_ne ht), nN_nI (by omega)]
theorem co_is (h : R σ0 τ0) (hC : ScC σ0 σ) (hM : ScM τ0 τ) {a s b : Nat} (ha : a < 8) (hs : s ≤ 50000000) (hb : b < 8) : (∃ σ', c_comesTo σ (nI a) (nI s) (nI b) = some (e9 (co τ0 a s b), σ') ∧ FrC σ σ') ∧ (∃ f, m_comesTo τ (nI a) (nI s) (nI b) = some (eM (co τ0 a s b), sAr τ 15 f)) ∧ ∀ t, co τ0 a s b = some t → s ≤ t ∧ t ≤ s + 28000 := by
  obtain ⟨o, σ1, τ1, k1, k2, k3, k4, k5, k6, k7, k8, k9, k10⟩ := comes3 (h.scr hC ScM.rfl) ha hs hb
  have hco : co τ0 a s b = o := co_eq k2 (fun t ht => by have := (k7 t ht).2; omega)
  rw [hco]
  exact ⟨⟨σ1, k1, k9⟩, k8 τ ⟨hM.2.2 11 (by decide), hM.2.2 12 (by decide), hM.2.2 13 (by decide), hM.2.2 14 (by decide)⟩, k7⟩
theorem co_rc (h : R σ0 τ0) {a s b s' c : Nat} (ha : a < 8) (hs : s ≤ 50000000) (hb : b < 8) (hs' : s' ≤ 50000000) (hc : c < 8) (h1 : co τ0 a s b ≠ none) (h2 : co τ0 a s c ≠ none) : co τ0 b s' c ≠ none := by
  obtain ⟨D, -, -, -, -, d3, d4, d5⟩ := h.lead ha hs
  obtain ⟨D', -, -, -, -, d3', d4', d5'⟩ := h.lead hb hs'
  have eb : ∀ y, y < 8 → co τ0 a s y = D y := fun y hy => by
    obtain ⟨f, q⟩ := d5 y hy
    exact co_eq q (fun t ht => by have := (d3 y t hy ht).2; omega)
  have eb' : ∀ y, y < 8 → co τ0 b s' y = D' y := fun y hy => by
    obtain ⟨f, q⟩ := d5' y hy
    exact co_eq q (fun t ht => by have := (d3' y t hy ht).2; omega)
  rw [eb b hb] at h1
  rw [eb c hc] at h2
  rw [eb' c hc]
  have hsym : ∀ x y, x < 8 → y < 8 → wyE (cA τ0 11) x y → wyE (cA τ0 11) y x := fun x y hx hy he => by
    obtain ⟨w, n, N, q, hw⟩ := h.rw
    have := (hw.2.2.2.2.2.2.2.2.2.2.1 x y hx hy).1
    unfold wyE at he ⊢
    rw [← this]
    exact he
  have hcl : ∀ x y, x < 8 → y < 8 → wyE (cA τ0 11) x y → D' x ≠ none → D' y ≠ none := fun x y hx hy he hx2 => by
    cases hd : D' x with
    | none => exact absurd hd hx2
    | some u =>
      obtain ⟨t, -, ht⟩ := d4'.2.2 x y u hx hy he hd
      rw [ht]
      exact fun g => by cases g
  have hb0 : D' b ≠ none := by
    obtain ⟨t, -, ht⟩ := d4'.2.1
    rw [ht]
    exact fun g => by cases g
  cases hdb : D b with
  | none => exact absurd hdb h1
  | some tb =>
    cases hdc : D c with
    | none => exact absurd hdc h2
    | some tc =>
      obtain ⟨n1, -, p1⟩ := d4.1 b tb hb hdb
      obtain ⟨n2, -, p2⟩ := d4.1 c tc hc hdc
      exact Pth.fwd (P := fun x => D' x ≠ none) hcl n2 c tc hc p2 (Pth.back (P := fun x => D' x ≠ none) hsym hcl n1 b tb hb p1 hb0)
abbrev Ls := Option (Nat × List Nat)
def upL (b : Ls) (s : Nat × List Nat) : Ls :=
  match b with
  | none => some s
  | some r => if r.1 ≤ s.1 then some r else some s
/-- what an order costs -/
noncomputable def lc (τ0 : St) (W : Nat → Nat) (now : Nat) : Nat → Nat → Nat → List Nat → Nat
  | acc, _, _, [] => acc
  | acc, z, t, y :: o => match co τ0 z t y with
    | none => 0
    | some u => lc τ0 W now (acc + W y * (u - now)) y u o
def memA (A : Nat) : List Nat := (List.range 8).filter fun y => decide (bt A y = 1)
theorem mem_in {A y : Nat} : y ∈ memA A ↔ y < 8 ∧ bt A y = 1 := by
  unfold memA
  rw [List.mem_filter, List.mem_range, decide_eq_true_eq]
def mchk (A y : Nat) : Bool := decide (bt A y = 0) || (decide (memA (A - 2 ^ y) = (memA A).erase y) && decide (nI A &&& ((1 <<< (nI y &&& 31)) ^^^ (-1)) = nI (A - 2 ^ y)))
theorem mchk_all : ∀ A, A < 256 → ∀ y, y < 8 → mchk A y = true := by decide +kernel
theorem mem_er {A y : Nat} (hA : A < 256) (hy : y < 8) (hb : bt A y = 1) : memA (A - 2 ^ y) = (memA A).erase y ∧ nI A &&& ((1 <<< (nI y &&& 31)) ^^^ (-1)) = nI (A - 2 ^ y) := by
  have := mchk_all A hA y hy
  unfold mchk at this
  simp only [Bool.or_eq_true, Bool.and_eq_true, decide_eq_true_eq] at this
  rcases this with g | g
  · rw [hb] at g; cases g
  · exact g
theorem mem_0 : ∀ A, A < 256 → (memA A = [] ↔ A = 0) := by decide +kernel
theorem fold_fm {α β : Type} (g : β → α → β) (p : Nat → Bool) (F : Nat → List α) (b : β) : ∀ n, (((List.range n).filter p).flatMap F).foldl g b = itr (fun y b => if p y = true then (F y).foldl g b else b) n b
  | 0 => rfl
  | n + 1 => by
    rw [List.range_succ, List.filter_append, List.flatMap_append, List.foldl_append, fold_fm g p F b n, itr]
    by_cases hp : p n = true
    · rw [if_pos hp]
      simp [hp]
    · rw [if_neg hp]
      simp [hp]
def BsL (σ : St) (m : Nat) (b : Ls) : Prop := (b = none ∧ cI σ 50 = 0) ∨ ∃ v o, b = some (v, o) ∧ v < 2 ^ 31 ∧ o.length = m ∧ cI σ 50 = 1 ∧ cI σ 51 = nI v ∧ ∀ j, j < m → cA σ 48 j = nI (o.getD j 0)
theorem BsL.fr {m : Nat} {b : Ls} (h : BsL σ m b) (k : FrC σ σ') : BsL σ' m b := by
  unfold BsL
  rw [k.1 50 (by decide) (by decide), k.1 51 (by decide) (by decide), k.2.2.1 48 (by decide) (by decide)]
  exact h
/-- what is scratch for a look: only 48 besides -/
def ScL (σ σ' : St) : Prop := (∀ k, k ∉ scI → cI σ' k = cI σ k) ∧ (∀ k, k ≠ 61 → cJ σ' k = cJ σ k) ∧ (∀ k, k ∉ scA → k ≠ 48 → cA σ' k = cA σ k) ∧ ∀ k, cL σ' k = cL σ k
theorem ScL.rfl : ScL σ σ := ⟨fun _ _ => Eq.refl _, fun _ _ => Eq.refl _, fun _ _ _ => Eq.refl _, fun _ => Eq.refl _⟩
theorem ScL.trans {σ2 : St} (h : ScL σ σ') (k : ScL σ' σ2) : ScL σ σ2 := ⟨fun i hi => (k.1 i hi).trans (h.1 i hi), fun i hi => (k.2.1 i hi).trans (h.2.1 i hi), fun i hi h2 => (k.2.2.1 i hi h2).trans (h.2.2.1 i hi h2), fun i => (k.2.2.2 i).trans (h.2.2.2 i)⟩
theorem ScL.sc (h : ScC σ σ') : ScL σ σ' := ⟨h.1, h.2.1, fun k hk _ => h.2.2.1 k hk, h.2.2.2⟩
theorem ScL.fr {σ2 : St} (h : ScL σ σ') (k : FrC σ' σ2) : ScL σ σ2 := h.trans (ScL.sc k.sc)
theorem ScL.wI (h : ScL σ σ') {k : Nat} {v : Int32} (m : k ∈ scI) : ScL σ (sI σ' k v) := h.trans (ScL.sc (ScC.rfl.wI m))
theorem ScL.wA (h : ScL σ σ') {k i : Nat} {v : Int32} (m : k ∈ scA) : ScL σ (sA σ' k i v) := h.trans (ScL.sc (ScC.rfl.wA m))
theorem ScL.w48 (h : ScL σ σ') {f : Nat → Int32} : ScL σ (sAr σ' 48 f) := ⟨h.1, h.2.1, fun k hk h2 => by rw [cA_sAr_ne _ h2]; exact h.2.2.1 k hk h2, h.2.2.2⟩
theorem co_C (h : R σ0 τ0) (hC : ScL σ0 σ) {a s b : Nat} (ha : a < 8) (hs : s ≤ 50000000) (hb : b < 8) : ∃ σ', c_comesTo σ (nI a) (nI s) (nI b) = some (e9 (co τ0 a s b), σ') ∧ FrC σ σ' := by
  have a12 : cA σ 12 = cA σ0 12 := hC.2.2.1 12 (by decide) (by decide)
  have a13 : cA σ 13 = cA σ0 13 := hC.2.2.1 13 (by decide) (by decide)
  have a14 : cA σ 14 = cA σ0 14 := hC.2.2.1 14 (by decide) (by decide)
  have a15 : cA σ 15 = cA σ0 15 := hC.2.2.1 15 (by decide) (by decide)
  have hw : wyAll σ := by
    unfold wyAll
    rw [a12, a13, a14, a15]
    exact h.ways.1
  obtain ⟨D, f, g, h1, h2, h3, h4⟩ := lead_is 0 hw ha hs
  have e1 : wyW 0 σ = wyTm τ0 := by
    rw [← h.wyEq.1]
    unfold wyW
    rw [a12, a13, a14, a15]
  rw [e1, a12, h.eq.A 12 11 (by decide)] at h1
  have hE : IsEA (wyE (cA τ0 11)) (wyTm τ0) a s D := h1
  obtain ⟨f', h6⟩ := comesTo_is h.ways.2 ha hs hE hb
  rw [co_eq h6 (fun t ht => by have := (h4 b t hb ht).2; omega)]
  refine ⟨sAr (sAr σ 16 f) 17 g, ?_, ⟨fun _ _ _ => rfl, fun _ => rfl, fun k g1 g2 => (cA_sAr_ne _ g2 _).trans (cA_sAr_ne _ g1 _), fun _ => rfl⟩⟩
  unfold c_comesTo
  rw [h2, B1_some, rdA_nI hb (by decide), B1_some, cA_sAr_ne _ (by decide), cA_sAr_at, h3 b hb]
theorem btJ {A j : Nat} (hA : A < 256) (hj : j < 8) : (nI A >>> (nI j &&& 31)) &&& 1 = nI (bt A j) := bit_is (by omega) (by omega)
theorem tryL_is (h : R σ0 τ0) {now : Nat} {W : Nat → Nat} {m : Nat} (hm : m ≤ 6) (hnow : now ≤ 99999) (c11 : cI σ0 11 = nI now) (hL : cL σ0 (100 + rr) = some 8) (hrr : rr < 6) (hrow : ∀ y, y < 8 → cA σ0 (100 + rr) y = nI (W y) ∧ W y ≤ 100) :
    ∀ (k F A z t acc : Nat) (pre : List Nat) (best : Ls) (σ : St), k < F → A < 256 → (memA A).length = k → pre.length + k = m → z < 8 → now ≤ t → t ≤ now + 28000 * pre.length → acc ≤ 16800000 * pre.length → (∀ y, y ∈ memA A → co τ0 z t y ≠ none) → ScL σ0 σ → (∀ i, i < pre.length → cA σ 49 i = nI (pre.getD i 0)) → BsL σ m best →
    ∃ σ', c_tryLooks F σ (nI A) (nI pre.length) (nI z) (nI t) (100 + rr) (nI acc) = some σ' ∧ ScL σ0 σ' ∧ BsL σ' m ((dfsP k (memA A)).foldl (fun b o => upL b (lc τ0 W now acc z t o, pre ++ o)) best) ∧ ∀ i, i < pre.length → cA σ' 49 i = nI (pre.getD i 0) := by
  intro k
  induction k with
  | zero =>
    intro F A z t acc pre best σ hF hA hlen hpm hz ht1 ht2 hacc hco hC h49 hB
    have hA0 : A = 0 := (mem_0 A hA).mp (List.length_eq_zero_iff.mp hlen)
    subst hA0
    cases F with
    | zero => omega
    | succ F =>
      have hcp : cpA 8 8 (sI (sI σ 50 1) 51 (nI acc)) 49 0 48 0 8 = some (sAr (sI (sI σ 50 1) 51 (nI acc)) 48 (va_cpy (cA σ 49) (cA σ 48) 0 0 8)) := cpA_is (dp := 0) (n := 8) (by decide) (by decide) (by decide) (by decide)
      have take : BsL (sAr (sI (sI σ 50 1) 51 (nI acc)) 48 (va_cpy (cA σ 49) (cA σ 48) 0 0 8)) m (some (acc, pre)) := by
        refine Or.inr ⟨acc, pre, rfl, by omega, by omega, rfl, rfl, fun j hj => ?_⟩
        rw [cA_sAr_at]
        unfold va_cpy
        rw [if_pos ⟨by omega, by omega⟩, show 0 + (j - 0) = j by omega]
        exact h49 j (by omega)
      have hC2 : ScL σ0 (sAr (sI (sI σ 50 1) 51 (nI acc)) 48 (va_cpy (cA σ 49) (cA σ 48) 0 0 8)) := ((hC.wI (by decide)).wI (by decide)).w48
      have hfold : (dfsP 0 (memA 0)).foldl (fun b o => upL b (lc τ0 W now acc z t o, pre ++ o)) best = upL best (acc, pre) := by
        show upL best (acc, pre ++ []) = _
        rw [List.append_nil]
      rw [hfold, c_tryLooks, if_pos nI_0]
      rcases hB with ⟨rfl, e50⟩ | ⟨v, o, rfl, q1, q2, q3, q4, q5⟩
      · rw [if_pos e50, hcp, B1_some, B1_some]
        exact ⟨_, rfl, hC2, take, h49⟩
      · rw [if_neg (by rw [q3]; exact k10), q4]
        by_cases q : v ≤ acc
        · rw [if_pos (nI_le q (by omega)), B1_some]
          refine ⟨_, rfl, hC, ?_, h49⟩
          show BsL σ m (if v ≤ acc then some (v, o) else some (acc, pre))
          rw [if_pos q]
          exact Or.inr ⟨v, o, rfl, q1, q2, q3, q4, q5⟩
        · rw [if_neg (nI_ge (by omega) (by omega)), hcp, B1_some, B1_some]
          refine ⟨_, rfl, hC2, ?_, h49⟩
          show BsL _ m (if v ≤ acc then some (v, o) else some (acc, pre))
          rw [if_neg q]
          exact take
  | succ k ih =>
    intro F A z t acc pre best σ hF hA hlen hpm hz ht1 ht2 hacc hco hC h49 hB
    have hA0 : A ≠ 0 := fun g => by
      rw [(mem_0 A hA).mpr g] at hlen
      cases hlen
    cases F with
    | zero => omega
    | succ F =>
      rw [c_tryLooks, if_neg (nI_ne0 (by omega) (by omega))]
      have hfold : (dfsP (k + 1) (memA A)).foldl (fun b o => upL b (lc τ0 W now acc z t o, pre ++ o)) best = itr (fun y b => if decide (bt A y = 1) = true then ((dfsP k ((memA A).erase y)).map fun o => y :: o).foldl (fun b o => upL b (lc τ0 W now acc z t o, pre ++ o)) b else b) 8 best := by
        rw [dfsP]
        exact fold_fm _ _ _ _ 8
      rw [hfold]
      have key : ∃ e, lq2 (c_tryLooks_L1 (c_tryLooks F) (nI A) (nI pre.length) (nI z) (nI t) (100 + rr) (nI acc)) σ 0 = some e ∧ ScL σ0 e ∧ BsL e m (itr (fun y b => if decide (bt A y = 1) = true then ((dfsP k ((memA A).erase y)).map fun o => y :: o).foldl (fun b o => upL b (lc τ0 W now acc z t o, pre ++ o)) b else b) 8 best) ∧ ∀ i, i < pre.length → cA e 49 i = nI (pre.getD i 0) := by
        unfold lq2
        refine lp_forI 8 (fun y (p : St × Int32) => y ≤ 8 ∧ p.2 = nI y ∧ ScL σ0 p.1 ∧ BsL p.1 m (itr (fun y b => if decide (bt A y = 1) = true then ((dfsP k ((memA A).erase y)).map fun o => y :: o).foldl (fun b o => upL b (lc τ0 W now acc z t o, pre ++ o)) b else b) y best) ∧ ∀ i, i < pre.length → cA p.1 49 i = nI (pre.getD i 0)) _ ?_ (i := 0) ⟨by omega, nI_0.symm, hC, hB, h49⟩
        rintro y ⟨σ2, x⟩ ⟨hy, hx, hC2, hB2, h492⟩
        dsimp only at hx hC2 hB2 h492
        subst hx
        by_cases h8 : y = 8
        · subst h8
          refine Or.inr ⟨σ2, ?_, hC2, hB2, h492⟩
          show c_tryLooks_L1 _ _ _ _ _ _ _ σ2 (nI 8) = _
          unfold c_tryLooks_L1
          rw [if_pos (by decide)]
        · have hy2 : y < 8 := by omega
          by_cases hb1 : bt A y = 1
          · have hmem : y ∈ memA A := mem_in.mpr ⟨hy2, hb1⟩
            obtain ⟨σ9, p1, p2⟩ := co_C h hC2 hz (show t ≤ 50000000 by omega) hy2
            cases hcy : co τ0 z t y with
            | none => exact absurd hcy (hco y hmem)
            | some u =>
              obtain ⟨-, -, hub⟩ := co_is h ScC.rfl ScM.rfl hz (show t ≤ 50000000 by omega) hy2
              obtain ⟨u1, u2⟩ := hub u hcy
              rw [hcy] at p1
              obtain ⟨m1, m2⟩ := mem_er hA hy2 hb1
              have hlt : A - 2 ^ y < 256 := Nat.lt_of_le_of_lt (Nat.sub_le _ _) hA
              have hlen2 : (memA (A - 2 ^ y)).length = k := by
                rw [m1, List.length_erase_of_mem hmem, hlen]
                rfl
              have hC9 : ScL σ0 (sA σ9 49 pre.length (nI y)) := (hC2.fr p2).wA (by decide)
              have hL9 : cL (sA σ9 49 pre.length (nI y)) (100 + rr) = some 8 := (hC9.2.2.2 _).trans hL
              have hr9 : cA (sA σ9 49 pre.length (nI y)) (100 + rr) y = nI (W y) := by
                rw [hC9.2.2.1 (100 + rr) (by
                  have : ∀ k ∈ scA, k < 100 := by decide
                  intro g; have := this _ g; omega) (by omega)]
                exact (hrow y hy2).1
              have h11 : cI (sA σ9 49 pre.length (nI y)) 11 = nI now := (hC9.1 11 (by decide)).trans c11
              have hW := (hrow y hy2).2
              have hmul : W y * (u - now) ≤ 100 * 168000 := Nat.mul_le_mul hW (by
                have : 28000 * pre.length ≤ 28000 * 5 := Nat.mul_le_mul_left _ (by omega)
                omega)
              have e49 : cA (sA σ9 49 pre.length (nI y)) 49 = upd (cA σ2 49) pre.length (nI y) := by
                rw [cA_sA, if_pos rfl, p2.2.2.1 49 (by decide) (by decide)]
              have hsub : ∀ c, c ∈ memA (A - 2 ^ y) → c ∈ memA A := fun c hc => by
                rw [m1] at hc
                exact List.mem_of_mem_erase hc
              have hl : (pre ++ [y]).length = pre.length + 1 := by simp
              have hB9 := hB2.fr p2
              have b1 : now ≤ u := by omega
              have b2 : u ≤ now + 28000 * (pre ++ [y]).length := Nat.le_trans u2 (Nat.le_trans (Nat.add_le_add_right ht2 28000) (Nat.le_of_eq (by rw [hl, Nat.mul_add, Nat.mul_one, Nat.add_assoc])))
              have b3 : acc + W y * (u - now) ≤ 16800000 * (pre ++ [y]).length := by
                rw [hl, Nat.mul_add]
                exact Nat.add_le_add hacc (Nat.le_trans hmul (by decide))
              have b4 : (pre ++ [y]).length + k = m := by rw [hl]; omega
              have b5 : k < F := by omega
              have b6 : t ≤ 50000000 := by omega
              have b7 : u ≤ 50000000 := by omega
              have b8 : co τ0 z t y ≠ none := by rw [hcy]; exact fun g => by cases g
              obtain ⟨σ14, r1, r2, r3, r4⟩ := ih F (A - 2 ^ y) y u (acc + W y * (u - now)) (pre ++ [y]) (itr (fun y b => if decide (bt A y = 1) = true then ((dfsP k ((memA A).erase y)).map fun o => y :: o).foldl (fun b o => upL b (lc τ0 W now acc z t o, pre ++ o)) b else b) y best) (sA σ9 49 pre.length (nI y)) b5 hlt hlen2 b4 hy2 b1 b2 b3 (fun c hc => co_rc h hz b6 hy2 b7 (mem_in.mp (hsub c hc)).1 b8 (hco c (hsub c hc))) hC9 (fun i hi => by
                rw [e49]
                by_cases g : i = pre.length
                · subst g
                  rw [upd_at]
                  simp
                · have hi2 : i < pre.length := by rw [hl] at hi; omega
                  rw [upd_ne _ g, h492 i hi2]
                  simp [List.getElem?_append_left hi2]) (by exact hB9)
              refine Or.inl ⟨hy2, (σ14, nI y + 1), ?_, by omega, nI_1 y, r2, ?_, fun i hi => ?_⟩
              · show c_tryLooks_L1 _ _ _ _ _ _ _ σ2 (nI y) = _
                unfold c_tryLooks_L1
                rw [if_neg (ge8 hy2), btJ hA hy2, hb1, if_pos (show nI 1 = 1 from rfl), p1, B2_some, wrA_nI (by omega) (by decide), B1_some, rdD_nI hL9 hy2 (by decide), B1_some, hr9, h11, m2, show e9 (some u) = nI u from rfl, pk_sub (show now ≤ u by omega), pk_mul, nI_add, nI_1]
                rw [hl] at r1
                rw [r1, B1_some, B1_some]
              · rw [itr, if_pos (decide_eq_true hb1), List.foldl_map, ← m1]
                have hfe : (fun b o => upL b (lc τ0 W now acc z t (y :: o), pre ++ y :: o)) = (fun b o => upL b (lc τ0 W now (acc + W y * (u - now)) y u o, pre ++ [y] ++ o)) := by
                  funext b o
                  rw [lc, hcy, List.append_assoc]
                  rfl
                rw [hfe]
                exact r3
              · have := r4 i (by rw [hl]; omega)
                rw [this]
                simp [List.getElem?_append_left hi]
          · have hb0 : bt A y = 0 := by have := bt_le A y; omega
            refine Or.inl ⟨hy2, (σ2, nI y + 1), ?_, by omega, nI_1 y, hC2, ?_, h492⟩
            · show c_tryLooks_L1 _ _ _ _ _ _ _ σ2 (nI y) = _
              unfold c_tryLooks_L1
              rw [if_neg (ge8 hy2), btJ hA hy2, hb0, if_neg (show ¬ nI 0 = 1 by decide), B1_some]
            · rw [itr, if_neg (fun g => hb1 (of_decide_eq_true g))]
              exact hB2
      obtain ⟨e, k1, k2, k3, k4⟩ := key
      rw [k1, B1_some]
      exact ⟨e, rfl, k2, k3, k4⟩
end Look2
