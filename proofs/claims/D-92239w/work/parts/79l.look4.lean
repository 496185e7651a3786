/-! plain law: look, the reference's search -/
section Look4
variable {σ σ' σ0 τ τ' τ0 : St} {rr : Nat}
def ScN (τ τ' : St) : Prop := (∀ k, k ∉ smI → cI τ' k = cI τ k) ∧ (∀ k, k ≠ 72 → cJ τ' k = cJ τ k) ∧ ∀ k, k ∉ smA → k ≠ 59 → cA τ' k = cA τ k
theorem ScN.rfl : ScN τ τ := ⟨fun _ _ => Eq.refl _, fun _ _ => Eq.refl _, fun _ _ _ => Eq.refl _⟩
theorem ScN.trans {τ2 : St} (h : ScN τ τ') (k : ScN τ' τ2) : ScN τ τ2 := ⟨fun i hi => (k.1 i hi).trans (h.1 i hi), fun i hi => (k.2.1 i hi).trans (h.2.1 i hi), fun i hi h2 => (k.2.2 i hi h2).trans (h.2.2 i hi h2)⟩
theorem ScN.sc (h : ScM τ τ') : ScN τ τ' := ⟨h.1, h.2.1, fun k hk _ => h.2.2 k hk⟩
theorem ScN.wI (h : ScN τ τ') {k : Nat} {v : Int32} (m : k ∈ smI) : ScN τ (sI τ' k v) := h.trans (ScN.sc (ScM.rfl.wI m))
theorem ScN.wAr (h : ScN τ τ') {k : Nat} {f : Nat → Int32} (m : k ∈ smA) : ScN τ (sAr τ' k f) := h.trans (ScN.sc (ScM.rfl.wAr m))
theorem ScN.w59 (h : ScN τ τ') {f : Nat → Int32} : ScN τ (sAr τ' 59 f) := ⟨h.1, h.2.1, fun k hk h2 => by rw [cA_sAr_ne _ h2]; exact h.2.2 k hk h2⟩
theorem co_N (h : R σ0 τ0) (hM : ScN τ0 τ) {a s b : Nat} (ha : a < 8) (hs : s ≤ 50000000) (hb : b < 8) : ∃ f, m_comesTo τ (nI a) (nI s) (nI b) = some (eM (co τ0 a s b), sAr τ 15 f) := by
  obtain ⟨o, σ1, τ1, k1, k2, k3, k4, k5, k6, k7, k8, k9, k10⟩ := comes3 h ha hs hb
  have hco : co τ0 a s b = o := co_eq k2 (fun t ht => by have := (k7 t ht).2; omega)
  rw [hco]
  exact k8 τ ⟨hM.2.2 11 (by decide) (by decide), hM.2.2 12 (by decide) (by decide), hM.2.2 13 (by decide) (by decide), hM.2.2 14 (by decide) (by decide)⟩
/-- what an order costs, on the reference's side -/
theorem cost_M (h : R σ0 τ0) {now z m : Nat} {W : Nat → Nat} (hm : m ≤ 6) (hnow : now ≤ 99999) (m5 : cI τ0 5 = nI now) (hrr : rr < 6) (hrow : ∀ y, y < 8 → cA τ0 7 (40 * rr + y) = nI (W y) ∧ W y ≤ 100) (hz : z < 8) {M p : List Nat} (hMl : M.length = m) (hMm : ∀ y, y ∈ M → y < 8 ∧ co τ0 z now y ≠ none) (hN : ScN τ0 τ) (hp : PA (cA τ 61) m p) (hpm : ∀ j, j < m → p.getD j 0 < m) (h60 : ∀ j, j < m → cA τ 60 j = nI (M.getD j 0)) :
    (∃ f, lq5 (m_look_L56 (nI rr) (nI m)) τ 0 (nI z) (nI now) 0 = some (sAr τ 15 f, nI (lc τ0 W now 0 z now (p.map fun i => M.getD i 0)))) ∧ lc τ0 W now 0 z now (p.map fun i => M.getD i 0) ≤ 16800000 * m := by
  obtain ⟨h1, h2, h3⟩ := hp
  have hlen : (p.map fun i => M.getD i 0).length = m := by rw [List.length_map, h1]
  have key : ∃ e, lq5 (m_look_L56 (nI rr) (nI m)) τ 0 (nI z) (nI now) 0 = some e ∧ ∃ f, e = (sAr τ 15 f, nI (lc τ0 W now 0 z now (p.map fun i => M.getD i 0))) ∧ lc τ0 W now 0 z now (p.map fun i => M.getD i 0) ≤ 16800000 * m := by
    unfold lq5
    refine lp_forI m (fun j (q : St × Int32 × Int32 × Int32 × Int32) => j ≤ m ∧ q.2.2.2.2 = nI j ∧ (∃ f, q.1 = sAr τ 15 f) ∧ ∃ acc zj tj, q.2.1 = nI acc ∧ q.2.2.1 = nI zj ∧ q.2.2.2.1 = nI tj ∧ zj < 8 ∧ now ≤ tj ∧ tj ≤ now + 28000 * j ∧ acc ≤ 16800000 * j ∧ (∀ y, y ∈ M → co τ0 zj tj y ≠ none) ∧ lc τ0 W now acc zj tj ((p.map fun i => M.getD i 0).drop j) = lc τ0 W now 0 z now (p.map fun i => M.getD i 0)) _ ?_ (i := 0) ⟨by omega, nI_0.symm, ⟨_, (sAr_self τ 15).symm⟩, 0, z, now, nI_0.symm, rfl, rfl, hz, Nat.le_refl _, by omega, by omega, fun y hy => (hMm y hy).2, rfl⟩
    rintro j ⟨s, x1, x2, x3, x4⟩ ⟨hj, hx4, ⟨f, hs⟩, acc, zj, tj, hx1, hx2, hx3, hzj, ht1, ht2, hacc, hre, hlc⟩
    dsimp only at hx4 hs hx1 hx2 hx3
    subst hx4 hs hx1 hx2 hx3
    by_cases hjm : j = m
    · subst hjm
      rw [List.drop_of_length_le (by rw [hlen]; exact Nat.le_refl _)] at hlc
      have hlc2 : acc = lc τ0 W now 0 z now (p.map fun i => M.getD i 0) := by rw [← hlc, lc]
      refine Or.inr ⟨_, ?_, f, rfl, by rw [← hlc2]; exact hacc⟩
      show m_look_L56 (nI rr) (nI j) (sAr τ 15 f) (nI acc) (nI zj) (nI tj) (nI j) = _
      unfold m_look_L56
      rw [if_pos (Int32.le_refl _), hlc2]
    · have hj2 : j < m := by omega
      have hpj := hpm j hj2
      have hd : (p.map fun i => M.getD i 0).drop j = M.getD (p.getD j 0) 0 :: (p.map fun i => M.getD i 0).drop (j + 1) := by
        rw [List.drop_eq_getElem_cons (by rw [hlen]; exact hj2), List.getElem_map]
        congr 2
        rw [List.getD_eq_getElem?_getD, List.getElem?_eq_getElem (by omega)]
        rfl
      have hyM : M.getD (p.getD j 0) 0 ∈ M := by
        rw [List.getD_eq_getElem?_getD, List.getElem?_eq_getElem (by omega)]
        exact List.getElem_mem _
      rw [hd] at hlc
      generalize hy : M.getD (p.getD j 0) 0 = y at *
      obtain ⟨hy8, -⟩ := hMm y hyM
      have b28 : 28000 * j ≤ 28000 * 5 := Nat.mul_le_mul_left _ (by omega)
      have htj : tj ≤ 50000000 := by omega
      have hN2 : ScN τ0 (sAr τ 15 f) := hN.wAr (by decide)
      obtain ⟨f2, hco⟩ := co_N h hN2 hzj htj hy8
      rw [sAr_sAr] at hco
      cases hcy : co τ0 zj tj y with
      | none => exact absurd hcy (hre y hyM)
      | some u =>
        rw [hcy] at hco
        obtain ⟨-, -, hub⟩ := co_is h ScC.rfl ScM.rfl hzj htj hy8
        obtain ⟨u1, u2⟩ := hub u hcy
        rw [lc, hcy] at hlc
        dsimp only at hlc
        have e7 : cA (sAr τ 15 f2) 7 (40 * rr + y) = nI (W y) := by
          rw [cA_sAr_ne _ (by decide), hN.2.2 7 (by decide) (by decide)]
          exact (hrow y hy8).1
        have e5 : cI (sAr τ 15 f2) 5 = nI now := (hN.1 5 (by decide)).trans m5
        have hmul : W y * (u - now) ≤ 100 * 168000 := Nat.mul_le_mul (hrow y hy8).2 (by omega)
        refine Or.inl ⟨hj2, (sAr τ 15 f2, nI (acc + W y * (u - now)), nI y, nI u, nI j + 1), ?_, by omega, nI_1 j, ⟨f2, rfl⟩, acc + W y * (u - now), y, u, rfl, rfl, rfl, hy8, by omega, ?_, ?_, fun c hc => ?_, hlc⟩
        · show m_look_L56 (nI rr) (nI m) (sAr τ 15 f) (nI acc) (nI zj) (nI tj) (nI j) = _
          unfold m_look_L56
          rw [if_neg (nI_ge hj2 (by omega)), rdA_nI (by omega) (by decide), B1_some, cA_sAr_ne _ (by decide), h3 j hj2, rdA_nI (by omega) (by decide), B1_some, cA_sAr_ne _ (by decide), h60 _ hpj, hy, hco, B2_some, ix40, rdA_nI (by omega) (by decide), B1_some, e7, e5, show eM (some u) = nI u from rfl, pk_sub (show now ≤ u by omega), pk_mul, nI_add]
        · exact Nat.le_trans u2 (Nat.le_trans (Nat.add_le_add_right ht2 28000) (Nat.le_of_eq (by rw [Nat.mul_add, Nat.mul_one, Nat.add_assoc])))
        · rw [Nat.mul_add]
          exact Nat.add_le_add hacc (Nat.le_trans hmul (by decide))
        · exact co_rc h hzj htj hy8 (by omega) (hMm c hc).1 (by rw [hcy]; exact fun g => by cases g) (hre c hc)
  obtain ⟨e, k1, f, rfl, k2⟩ := key
  exact ⟨⟨f, k1⟩, k2⟩
end Look4
