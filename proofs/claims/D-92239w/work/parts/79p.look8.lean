/-! plain law: look, joined -/
section Look8
variable {σ σ' σ0 τ τ' τ0 : St} {rr : Nat}
theorem L43_C {A B V : Nat} {D : Nat → Option Nat} (hAB : nI B &&& nI V = nI A) (hA : A < 256) (h16 : ∀ y, y < 8 → cA σ 16 y = e9 (D y)) (hD : ∀ y t, y < 8 → D y = some t → t < 100000000) :
    ((memA A).all (fun y => (D y).isSome) = true ∧ lq1 (c_look_L43 (nI B) (nI V) σ) 0 = some (Sum.inl ())) ∨
    ((memA A).all (fun y => (D y).isSome) = false ∧ lq1 (c_look_L43 (nI B) (nI V) σ) 0 = some (Sum.inr (-3, sA (sI σ 0 1) 1 1 (cA σ 1 1 + 1)))) := by
  have key : ∃ e, lq1 (c_look_L43 (nI B) (nI V) σ) 0 = some e ∧ (((memA A).all (fun y => (D y).isSome) = true ∧ e = Sum.inl ()) ∨ ((memA A).all (fun y => (D y).isSome) = false ∧ e = Sum.inr (-3, sA (sI σ 0 1) 1 1 (cA σ 1 1 + 1)))) := by
    unfold lq1
    refine lp_forI 8 (fun k (p : Int32) => k ≤ 8 ∧ p = nI k ∧ (mem8 A k).all (fun y => (D y).isSome) = true) _ ?_ (i := 0) ⟨by omega, nI_0.symm, rfl⟩
    rintro k p ⟨hk, rfl, hall⟩
    by_cases h8 : k = 8
    · subst h8
      exact Or.inr ⟨_, by show c_look_L43 _ _ _ (nI 8) = _; unfold c_look_L43; rw [if_pos (by decide)], Or.inl ⟨hall, rfl⟩⟩
    · have hk2 : k < 8 := by omega
      by_cases g : bt A k = 1
      · cases hd : D k with
        | none =>
          refine Or.inr ⟨Sum.inr (-3, sA (sI σ 0 1) 1 1 (cA σ 1 1 + 1)), ?_, Or.inr ⟨List.all_eq_false.mpr ⟨k, mem_in.mpr ⟨hk2, g⟩, by rw [hd]; decide⟩, rfl⟩⟩
          show c_look_L43 _ _ _ (nI k) = _
          unfold c_look_L43
          rw [if_neg (ge8 hk2), hAB, btJ hA hk2, g, if_pos (show nI 1 = 1 from rfl), rdA_nI hk2 (by decide), B1_some, h16 k hk2, hd, if_pos (show e9 none = -9 from rfl), show c_found σ 1 = _ from found_is σ (f := 1) (by decide) rfl, B2_some]
        | some u =>
          refine Or.inl ⟨hk2, nI k + 1, ?_, by omega, nI_1 k, ?_⟩
          · show c_look_L43 _ _ _ (nI k) = _
            unfold c_look_L43
            rw [if_neg (ge8 hk2), hAB, btJ hA hk2, g, if_pos (show nI 1 = 1 from rfl), rdA_nI hk2 (by decide), B1_some, h16 k hk2, hd, if_neg (show ¬ e9 (some u) = -9 from nI_n9 (by have := hD k u hk2 hd; omega))]
          · rw [mem8_s, if_pos g, List.all_append, hall]
            simp [hd]
      · refine Or.inl ⟨hk2, nI k + 1, ?_, by omega, nI_1 k, ?_⟩
        · show c_look_L43 _ _ _ (nI k) = _
          unfold c_look_L43
          rw [if_neg (ge8 hk2), hAB, btJ hA hk2, show bt A k = 0 by have := bt_le A k; omega, if_neg (show ¬ nI 0 = 1 by decide)]
        · rw [mem8_s, if_neg g, List.append_nil]; exact hall
  obtain ⟨e, k1, ⟨k2, rfl⟩ | ⟨k2, rfl⟩⟩ := key
  · exact Or.inl ⟨k2, k1⟩
  · exact Or.inr ⟨k2, k1⟩
theorem L46_M {m : Nat} (hm : m ≤ 6) : ∃ f, lq2 (m_look_L46 (nI m)) τ 0 = some (sAr τ 61 f) ∧ ∀ j, j < m → f j = nI j := by
  have key : ∃ e, lq2 (m_look_L46 (nI m)) τ 0 = some e ∧ ∃ f, e = sAr τ 61 f ∧ ∀ j, j < m → f j = nI j := by
    unfold lq2
    refine lp_forI m (fun i (q : St × Int32) => i ≤ m ∧ q.2 = nI i ∧ ∃ f, q.1 = sAr τ 61 f ∧ ∀ j, j < i → f j = nI j) _ ?_ (i := 0) ⟨by omega, nI_0.symm, _, (sAr_self τ 61).symm, fun j hj => absurd hj (Nat.not_lt_zero j)⟩
    rintro i ⟨s, z⟩ ⟨hi, hz, f, hs, hf⟩
    dsimp only at hz hs
    subst hz hs
    by_cases h6 : i = m
    · subst h6
      exact Or.inr ⟨_, by show m_look_L46 _ _ (nI i) = _; unfold m_look_L46; rw [if_pos (Int32.le_refl _)], f, rfl, hf⟩
    · have hi2 : i < m := by omega
      refine Or.inl ⟨hi2, (sAr τ 61 (upd f i (nI i)), nI i + 1), ?_, by omega, nI_1 i, _, rfl, fun j hj => ?_⟩
      · show m_look_L46 _ _ (nI i) = _
        unfold m_look_L46
        rw [if_neg (nI_ge hi2 (by omega)), wrA_nI (by omega) (by decide), B1_some, sA_sAr]
      · by_cases q : j = i
        · rw [q, upd_at]
        · rw [upd_ne _ q]; exact hf j (by omega)
  obtain ⟨e, k1, f, rfl, k2⟩ := key
  exact ⟨f, k1, k2⟩
theorem R.lok (h : R σ τ) (hq : Req σ' τ') (hI : ∀ k ∈ [5, 16, 34, 40, 69], cI τ' k = cI τ k) (h58 : isN (cI τ' 58) 6) (h48 : ∀ j, j < nN (cI τ' 58) → cA σ' 48 j = cA τ' 59 j) (hL : ∀ k, cL σ' k = cL σ k) (hA : ∀ k ∈ [36, 37, 38, 39], cA σ' k = cA σ k) (hA2 : ∀ k, 100 ≤ k → cA σ' k = cA σ k) (hM : ∀ k ∈ [6, 7, 9, 10, 11, 12, 13, 14, 17, 18, 19, 20, 21, 22, 23, 24, 25, 26, 27, 28, 29, 30, 31, 35, 36, 37, 38, 39, 41, 42, 43], cA τ' k = cA τ k) : R σ' τ' := by
  obtain ⟨w, n, N, q, h1, h2, h3, h4, h5, h6, h7, h8, h9, h10⟩ := h
  refine ⟨w, n, N, q, ?_, hq, ?_, ?_, ?_, ?_, ?_, ?_, ?_, ?_⟩
  · unfold Cn
    rw [hI 5 (by decide), hI 16 (by decide), hI 34 (by decide), hI 40 (by decide)]
    exact h1
  · rw [hM 6 (by decide), hM 7 (by decide), hM 9 (by decide), hM 10 (by decide)]
    exact ⟨h3.1.to (fun k _ => hL _) (fun k _ => hA2 _ (by omega)), h3.2.to (fun k _ => hL _) (fun k _ => hA2 _ (by omega))⟩
  · exact h4.to (fun k _ => hL k) (fun k hk => hA2 k (by omega)) (fun k hk => hM k (by
      have : ∀ k ∈ dynM, k ∈ [6, 7, 9, 10, 11, 12, 13, 14, 17, 18, 19, 20, 21, 22, 23, 24, 25, 26, 27, 28, 29, 30, 31, 35, 36, 37, 38, 39, 41, 42, 43] := by decide
      exact this k hk))
  · rw [hA 36 (by decide), hA 37 (by decide), hA 38 (by decide), hA 39 (by decide), hM 43 (by decide), hM 41 (by decide), hM 42 (by decide)]
    exact h5
  · rw [hI 69 (by decide)]
    exact ⟨h58, h48, h6.2.2⟩
  · rw [hM 35 (by decide), hM 36 (by decide), hM 37 (by decide), hM 38 (by decide), hM 39 (by decide), hM 20 (by decide), hM 26 (by decide)]
    exact h7
  · rw [hM 18 (by decide), hM 19 (by decide), hM 20 (by decide), hM 29 (by decide), hM 30 (by decide), hM 31 (by decide)]
    exact h8
  · rw [hM 21 (by decide), hM 22 (by decide), hM 23 (by decide)]
    exact h9
  · rw [hM 11 (by decide), hM 12 (by decide), hM 13 (by decide), hM 14 (by decide)]
    exact h10
theorem R.lokS (h : R σ τ) (hC : ScL σ σ') (hN : ScN τ τ') {m : Nat} (hm : m ≤ 6) (h48 : ∀ j, j < m → cA σ' 48 j = cA τ' 59 j) : R (sI σ' 47 (nI m)) (sI τ' 58 (nI m)) := by
  have hq : Req (sI σ' 47 (nI m)) (sI τ' 58 (nI m)) := by
    have a1 : ∀ p ∈ eqI, p.1 ∉ scI ∧ p.2 ∉ smI := by decide
    have a2 : ∀ p ∈ eqJ, p.1 ≠ 61 ∧ p.2 ≠ 72 := by decide
    have a3 : ∀ p ∈ eqA, p.1 ∉ scA ∧ p.2 ∉ smA ∧ p.1 ≠ 48 ∧ p.2 ≠ 59 := by decide
    have h0 : Req σ' τ' := by
      refine ⟨fun p hp => ?_, fun p hp => ?_, fun p hp => ?_⟩
      · rw [hC.1 _ (a1 p hp).1, hN.1 _ (a1 p hp).2]; exact h.eq.1 p hp
      · rw [hC.2.1 _ (a2 p hp).1, hN.2.1 _ (a2 p hp).2]; exact h.eq.2.1 p hp
      · rw [hC.2.2.1 _ (a3 p hp).1 (a3 p hp).2.2.1, hN.2.2 _ (a3 p hp).2.1 (a3 p hp).2.2.2]; exact h.eq.2.2 p hp
    exact h0.wI (by decide) rfl
  refine h.lok hq (fun k hk => ?_) ⟨m, hm, rfl⟩ (fun j hj => h48 j ?_) hC.2.2.2 (fun k hk => hC.2.2.1 k ?_ ?_) (fun k hk => hC.2.2.1 k (sc_hi hk) (by omega)) (fun k hk => hN.2.2 k ?_ ?_)
  · have a : ∀ k ∈ [5, 16, 34, 40, 69], k ≠ 58 ∧ k ∉ smI := by decide
    rw [cI_sI, if_neg (a k hk).1]
    exact hN.1 k (a k hk).2
  · have e : cI (sI τ' 58 (nI m)) 58 = nI m := rfl
    rw [e, nN_nI (by omega)] at hj
    exact hj
  · revert k; decide
  · revert k; decide
  · revert k; decide
  · revert k; decide
theorem upL_some (b : Ls) (s : Nat × List Nat) : upL b s ≠ none := by
  cases b with
  | none => exact fun g => by cases g
  | some r =>
    show (if r.1 ≤ s.1 then some r else some s) ≠ none
    by_cases q : r.1 ≤ s.1
    · rw [if_pos q]
      exact fun g => by cases g
    · rw [if_neg q]
      exact fun g => by cases g
theorem upL_fold (f : List Nat → Nat × List Nat) : ∀ (L : List (List Nat)) (b : Ls), b ≠ none → L.foldl (fun b o => upL b (f o)) b ≠ none
  | [], _, h => h
  | o :: L, b, _ => upL_fold f L (upL b (f o)) (upL_some _ _)
theorem memA_nd (A : Nat) : (memA A).Pairwise (fun a b => a ≠ b) := List.Pairwise.filter _ List.nodup_range
theorem memA_inj (A : Nat) {x y : Nat} (hx : x < (memA A).length) (hy : y < (memA A).length) (h : (memA A)[x] = (memA A)[y]) : x = y := by
  have hp := List.pairwise_iff_getElem.mp (memA_nd A)
  rcases Nat.lt_trichotomy x y with q | q | q
  · exact absurd h (hp x y hx hy q)
  · exact q
  · exact absurd h.symm (hp y x hy hx q)
theorem memA_map (A : Nat) : (List.range (memA A).length).map (fun i => (memA A).getD i 0) = memA A := by
  refine List.ext_getElem (by rw [List.length_map, List.length_range]) fun i h1 h2 => ?_
  rw [List.getElem_map, List.getElem_range, List.getD_eq_getElem?_getD, List.getElem?_eq_getElem h2]
  rfl
theorem look_tail (h : R σ τ) {w n N q : Nat} (hw : Rw w n N q σ τ) {t z : Nat} (ht : t < n) (hl : cA τ 20 t = 1) (hz : z < 8) (hrr : rr < 6) (hL : cL σ (100 + rr) = some 8) (hrow : ∀ j, j < 8 → cA σ (100 + rr) j = cA τ 7 (40 * rr + j)) : Sim
      (B2 (lq3 (c_look_L18 σ (nI rr)) 0 1 0) fun x22 x23 =>
              if x23 = 0 then
                (B2 (c_found σ 3) fun v61 σ62 =>
                some (v61, σ62))
              else
                (B2 (c_canBeOf σ (nI t)) fun v37 σ38 =>
                B1 (j_bitCount (x22 &&& v37)) fun v40 =>
                if v40 ≤ 6 then
                  (B1 (c_lead σ38 (nI z) (cI σ38 11) 0) fun σ42 =>
                  BR1 (lq1 (c_look_L43 x22 v37 σ42) 0) (fun u45 =>
                  B1 (ixD (sI σ42 50 0) 100 6 (nI rr)) fun k51 =>
                  B1 (c_tryLooks 7 (sI σ42 50 0) (x22 &&& v37) 0 (nI z) (cI (sI σ42 50 0) 11) (100 + k51) 0) fun σ54 =>
                  B1 (j_bitCount (x22 &&& v37)) fun v56 =>
                  B2 (c_say (sI σ54 47 v56) (cI (sI σ54 47 v56) 51) (cI (sI σ54 47 v56) 47)) fun v58 σ59 =>
                  some (v58, σ59)) (fun r => some r))
                else
                  (some ((-2), σ38))))
      (B2 (m_yardsOf τ (nI t)) fun v14 σ15 =>
              B4 (lq5 (m_look_L16 (nI z) (nI rr) v14) σ15 1 0 1 0) fun σ22 x23 x24 x25 =>
              if x23 = 0 then
                (B2 (m_meets σ22 3) fun v105 σ106 =>
                some (v105, σ106))
              else
                (if x24 ≤ 6 then
                  (if x25 = 0 then
                    (B2 (m_meets σ22 1) fun v102 σ103 =>
                    some (v102, σ103))
                  else
                    (B1 (lq2 (m_look_L46 x24) σ22 0) fun σ49 =>
                    B1 (lq2 (m_look_L52 (nI z) (nI rr) x24) (sI σ49 62 (-9)) 1) fun σ55 =>
                    B2 (m_ask (sI σ55 58 x24) (cI (sI σ55 58 x24) 62) x24) fun v99 σ100 =>
                    some (v99, σ100)))
                else
                  (some ((-2), σ22)))) Rq := by
  obtain ⟨V, σ1, τ1, hV, c1, m1, hR1, hC1, hM1⟩ := canOf_is hw ht hl
  obtain ⟨now, hnow, n1, n2⟩ := hR1.now
  have hr1 : ∀ y, y < 8 → cA τ1 7 (40 * rr + y) = cA σ (100 + rr) y := fun y hy => by
    rw [hM1.2.2 7 (by decide)]; exact (hrow y hy).symm
  obtain ⟨τ2, l1, l2, l3⟩ := L16_M hR1 (f := cA σ (100 + rr)) (z := z) hrr hr1 hV hz hnow n2 ScM.rfl
  rw [L18_C (f := cA σ (100 + rr)) hrr hL (fun _ _ => rfl), m1, B2_some, B2_some, l1, B4_some]
  cases hg : g100 (cA σ (100 + rr)) 8 with
  | false =>
    rw [b01_f, if_pos k00, if_pos k00]
    exact found_meets2 (h.scr ScC.rfl (hM1.trans l2)) (f := 3) (by decide) rfl
  | true =>
    rw [b01_t, if_neg k10, if_neg k10, c1, B2_some]
    generalize hA : rwb (cA σ (100 + rr)) 8 &&& V = A at *
    have hAV : A < 256 := by rw [← hA]; exact Nat.lt_of_le_of_lt Nat.and_le_right hV
    have hAB : nI (rwb (cA σ (100 + rr)) 8) &&& nI V = nI A := by rw [and_nI, hA]
    rw [hAB, bcf_is (show A < 16384 by omega), B1_some, pop_mem A hAV]
    have hmm : (mem8 A 8).length = (memA A).length := rfl
    rw [hmm] at l3 ⊢
    have hm8 : (memA A).length ≤ 8 := Nat.le_trans (List.length_filter_le _ _) (by rw [List.length_range]; exact Nat.le_refl _)
    by_cases hm : (memA A).length ≤ 6
    · have hm' : nI (memA A).length ≤ 6 := nI_le (b := 6) hm (by decide)
      obtain ⟨D, f, g, j1, j2, j3, j4, j5⟩ := hR1.lead hz (s := now) (by omega)
      have hco : ∀ y, y < 8 → co τ1 z now y = D y := fun y hy => by
        obtain ⟨f', q⟩ := j5 y hy
        exact co_eq q (fun t ht => by have := (j3 y t hy ht).2; omega)
      have hrc : rch τ1 z now A 8 = (memA A).all (fun y => (D y).isSome) := by
        rw [Bool.eq_iff_iff]
        unfold rch
        rw [List.all_eq_true, List.all_eq_true]
        constructor
        · intro g x hx
          rw [← hco x (mem_in.mp hx).1]; exact g x hx
        · intro g x hx
          rw [hco x (mem_in.mp hx).1]; exact g x hx
      have hC2 : ScC σ1 (sAr (sAr σ1 16 f) 17 g) := (ScC.rfl.wAr (by decide)).wAr (by decide)
      have hR2 : R (sAr (sAr σ1 16 f) 17 g) τ2 := hR1.scr hC2 l2
      rw [if_pos hm', if_pos hm', n1, j1, B1_some, hrc]
      rcases L43_C (σ := sAr (sAr σ1 16 f) 17 g) hAB hAV (fun y hy => by rw [cA_sAr_ne _ (by decide), cA_sAr_at, j2 y hy]) (fun y t hy ht => by have := (j3 y t hy ht).2; omega) with ⟨a1, a2⟩ | ⟨a1, a2⟩
      · have hW : ∀ y, y < 8 → cA σ (100 + rr) y = nI (nN (cA σ (100 + rr) y)) ∧ nN (cA σ (100 + rr) y) ≤ 100 := fun y hy => by
          have g1 := g100_all hg y hy
          rcases rng_cases (cA σ (100 + rr) y) 100 (N := 100) (by decide) with ⟨j, hj, ej, -⟩ | ⟨-, ej⟩
          · rw [ej, nN_nI (by omega)]
            exact ⟨rfl, hj⟩
          · rw [c_in_t g1.1 g1.2] at ej
            cases ej
        have e100 : cA σ1 (100 + rr) = cA σ (100 + rr) := hC1.2.2.1 _ (sc_hi (by omega))
        have hL1 : cL σ1 (100 + rr) = some 8 := (hC1.2.2.2 _).trans hL
        have hall : ∀ y, y ∈ memA A → co τ1 z now y ≠ none := fun y hy => by
          have := List.all_eq_true.mp a1 y hy
          rw [hco y (mem_in.mp hy).1]
          intro q
          rw [q] at this
          cases this
        have hC3 : ScL σ1 (sI (sAr (sAr σ1 16 f) 17 g) 50 0) := (ScL.sc hC2).wI (by decide)
        obtain ⟨σ4, t1, t2, t3, -⟩ := tryL_is hR1 (W := fun y => nN (cA σ (100 + rr) y)) hm hnow n1 hL1 hrr (fun y hy => by rw [e100]; exact hW y hy) (memA A).length 7 A z now 0 [] none (sI (sAr (sAr σ1 16 f) 17 g) 50 0) (by omega) hAV rfl (by show 0 + _ = _; omega) hz (Nat.le_refl _) (by omega) (by omega) hall hC3 (fun i hi => absurd hi (Nat.not_lt_zero i)) (Or.inl ⟨rfl, rfl⟩)
        have t1' : c_tryLooks 7 (sI (sAr (sAr σ1 16 f) 17 g) 50 0) (nI A) 0 (nI z) (nI now) (100 + rr) 0 = some σ4 := t1
        have n1' : cI (sI (sAr (sAr σ1 16 f) 17 g) 50 0) 11 = nI now := n1
        have hL3 : cL (sI (sAr (sAr σ1 16 f) 17 g) 50 0) (100 + rr) = some 8 := hL1
        obtain ⟨f61, o1, o2⟩ := L46_M (τ := τ2) hm
        have hd := head_P (memA A).length (List.range (memA A).length) (by rw [List.length_range])
        cases hdl : dfsP (memA A).length (List.range (memA A).length) with
        | nil => rw [hdl] at hd; cases hd
        | cons p L =>
          rw [hdl] at hd
          have hp : p = List.range (memA A).length := by cases hd; rfl
          have hch := chk_all hm
          rw [hdl] at hch
          have hPA : PA (cA (sI (sAr τ2 61 f61) 62 (-9)) 61) (memA A).length p := by
            rw [hp]
            have gd : ∀ j, (List.range (memA A).length).getD j 0 = if j < (memA A).length then j else 0 := fun j => by
              rw [List.getD_eq_getElem?_getD]
              by_cases q : j < (memA A).length
              · rw [if_pos q, List.getElem?_eq_getElem (by rw [List.length_range]; exact q), List.getElem_range]; rfl
              · rw [if_neg q, List.getElem?_eq_none (by rw [List.length_range]; omega)]; rfl
            refine ⟨by rw [List.length_range], fun j => ?_, fun j hj => ?_⟩
            · rw [gd]
              by_cases q : j < (memA A).length
              · rw [if_pos q]; omega
              · rw [if_neg q]; omega
            · rw [gd, if_pos hj]
              show cA (sAr τ2 61 f61) 61 j = _
              rw [cA_sAr_at]
              exact o2 j hj
          obtain ⟨τ5, r1, r2, r3⟩ := loop_M hR1 (W := fun y => nN (cA σ (100 + rr) y)) hm hnow n2 hrr (fun y hy => by rw [hr1 y hy]; exact hW y hy) hz (M := memA A) rfl (fun y hy => ⟨(mem_in.mp hy).1, hall y hy⟩) L p none (sI (sAr τ2 61 f61) 62 (-9)) hch (((ScN.sc l2).wAr (by decide)).wI (by decide)) hPA (fun j hj => by
            show cA (sAr τ2 61 f61) 60 j = _
            rw [cA_sAr_ne _ (by decide)]
            exact l3 j hj (by omega)) (Or.inl ⟨rfl, rfl⟩)
          have hfold : (dfsP (memA A).length (memA A)).foldl (fun b o => upL b (lc τ1 (fun y => nN (cA σ (100 + rr) y)) now 0 z now o, [] ++ o)) none = (p :: L).foldl (fun b o => upL b (lc τ1 (fun y => nN (cA σ (100 + rr) y)) now 0 z now (o.map fun i => (memA A).getD i 0), o.map fun i => (memA A).getD i 0)) none := by
            have e1 := dfsP_map (fun i => (memA A).getD i 0) (memA A).length (List.range (memA A).length) (fun x hx y hy hxy => by
              rw [List.mem_range] at hx hy
              rw [List.getD_eq_getElem?_getD, List.getD_eq_getElem?_getD, List.getElem?_eq_getElem hx, List.getElem?_eq_getElem hy] at hxy
              exact memA_inj A hx hy hxy)
            rw [memA_map, hdl] at e1
            rw [e1, List.foldl_map]
            rfl
          rw [hfold] at t3
          have hne : (p :: L).foldl (fun b o => upL b (lc τ1 (fun y => nN (cA σ (100 + rr) y)) now 0 z now (o.map fun i => (memA A).getD i 0), o.map fun i => (memA A).getD i 0)) none ≠ none :=
            upL_fold (fun o => (lc τ1 (fun y => nN (cA σ (100 + rr) y)) now 0 z now (o.map fun i => (memA A).getD i 0), o.map fun i => (memA A).getD i 0)) L _ (upL_some _ _)
          generalize (p :: L).foldl (fun b o => upL b (lc τ1 (fun y => nN (cA σ (100 + rr) y)) now 0 z now (o.map fun i => (memA A).getD i 0), o.map fun i => (memA A).getD i 0)) none = Bst at *
          rcases t3 with ⟨q, -⟩ | ⟨v, o, q, u1, u2, u3, u4, u5⟩
          · exact absurd q hne
          · rcases r3 with ⟨q', -⟩ | ⟨v', o', q', u1', u2', u3', u4'⟩
            · exact absurd q' hne
            · rw [q] at q'
              cases q'
              rw [a2, BR1_l, ixD_is (σ := sI (sAr (sAr σ1 16 f) 17 g) 50 0) hrr (by decide) hL3, B1_some, n1', t1', B1_some, B1_some, a1, b01_t, if_neg k10, o1, B1_some, r1, B1_some]
              refine ⟨_, _, rfl, rfl, rfl, ?_⟩
              have hR5 := hR1.lokS t2 r2 hm (fun j hj => by rw [u5 j hj, u4' j hj])
              refine hR5.say ?_
              show cI σ4 51 = cI τ5 62
              rw [u4, u3']
      · rw [a2, BR1_r, a1, b01_f, if_pos k00, show m_meets τ2 1 = _ from meets_is τ2 (f := 1) (by decide) rfl, B2_some]
        exact ⟨_, _, rfl, rfl, rfl, hR2.found 1⟩
    · have hm' : ¬ nI (memA A).length ≤ 6 := nI_ge (a := 6) (by omega) (by omega)
      rw [if_neg hm', if_neg hm']
      exact (hR1.scr ScC.rfl l2).same _
theorem s_look (h : R σ τ) (a b c : Int32) : Sim (c_look σ a b c) (m_look τ a b c) Rq := by
  obtain ⟨w, n, N, q, hw⟩ := h.rw
  have hn := hw.1.2.1
  unfold c_look m_look
  rcases hw.tcase a with ⟨t, ht, rfl, e3, e4, hT⟩ | ⟨e3, e4⟩
  · obtain ⟨kd, t1, t2, t3, t4, t5, t6, t7, t8⟩ := hT
    have f4 := t7 (4, 20) (by decide) (okT_lo (by decide))
    have f4' : cA σ (120 + t) 4 = cA τ 20 t := f4
    rw [e3, e4, B1_some, B1_some, if_neg k10, if_neg k10]
    rcases yard_cases b with ⟨z, hz, rfl, y1, y2⟩ | ⟨-, y1, y2⟩
    · rw [y1, y2, B1_some, B1_some, if_neg k10, if_neg k10]
      rcases row_cases c with ⟨rr, hrr, rfl, e1, e2⟩ | ⟨e1, e2⟩
      · rw [e1, e2, B1_some, B1_some, if_neg k10, if_neg k10, ixD_is (by omega) (by decide) t2, B1_some, rdT_is t2 (okT_lo (by decide)), B1_some, rdA_nI (by omega) (by decide), B1_some, f4']
        by_cases hl : cA τ 20 t = 0
        · rw [if_pos hl, if_pos hl]
          exact h.same _
        · have hl1 : cA τ 20 t = 1 := by
            rcases hw.2.2.2.2.2.2.1.2.2.2.2 t ht with g | ⟨g, -⟩
            · exact absurd g hl
            · exact g
          rw [if_neg hl, if_neg hl, ixA_is hrr (by decide), B1_some, rdA_nI hrr (by decide), B1_some]
          rcases h.rw6 hrr with ⟨g1, g2⟩ | ⟨m, hm, g2, g3, g4⟩
          · rw [g1, if_neg kSn, g2, if_neg k90]
            exact found_meets2 h (f := 1) (by decide) rfl
          · rw [if_pos (show (cL σ (100 + rr)).isSome = true by rw [g2]; rfl), ixD_is hrr (by decide) g2, B1_some, g2, B1_some, g3, if_pos (nI_pos' (by omega)), B1_some]
            by_cases h8 : m = 8
            · subst h8
              rw [if_pos (show nI 8 = 8 from rfl), if_pos (show nI 8 = 8 from rfl)]
              exact look_tail h hw ht hl1 hz hrr g2 g4
            · have hne : ¬ nI m = 8 := fun g => h8 ((nI_eq (b := 8) (by omega) (by decide)).mp g)
              rw [if_neg hne, if_neg hne]
              exact found_meets2 h (f := 5) (by decide) rfl
      · rw [e1, e2, B1_some, B1_some, if_pos k00, if_pos k00]
        exact h.same _
    · rw [y1, y2, B1_some, B1_some, if_pos k00, if_pos k00]
      exact h.same _
  · rw [e3, e4, B1_some, B1_some, if_pos k00, if_pos k00]
    exact h.same _
end Look8
