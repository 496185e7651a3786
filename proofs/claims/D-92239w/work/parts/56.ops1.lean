/-! plain law: the small operations -/
/-- the class' upper part (rows, texts, trailers) stays; the reference's trailers stay -/
def Up (σ σ' : St) : Prop := (∀ k, cL σ' k = cL σ k) ∧ ∀ k, 62 ≤ k → cA σ' k = cA σ k
def Dn (τ τ' : St) : Prop := ∀ k ∈ dynM, cA τ' k = cA τ k
section UpDn
variable {σ σ' τ τ' : St}
theorem Up.rfl : Up σ σ := ⟨fun _ => Eq.refl _, fun _ _ => Eq.refl _⟩
theorem Up.wI (h : Up σ σ') {k : Nat} {v : Int32} : Up σ (sI σ' k v) := h
theorem Up.wJ (h : Up σ σ') {k : Nat} {v : Int64} : Up σ (sJ σ' k v) := h
theorem Up.wAr (h : Up σ σ') {k : Nat} {f : Nat → Int32} (m : k < 62) : Up σ (sAr σ' k f) := ⟨h.1, fun i hi => by rw [cA_sAr, if_neg (by omega)]; exact h.2 i hi⟩
theorem Up.wA (h : Up σ σ') {k i : Nat} {v : Int32} (m : k < 62) : Up σ (sA σ' k i v) := h.wAr m
theorem Dn.rfl : Dn τ τ := fun _ _ => Eq.refl _
theorem Dn.wI (h : Dn τ τ') {k : Nat} {v : Int32} : Dn τ (sI τ' k v) := h
theorem Dn.wJ (h : Dn τ τ') {k : Nat} {v : Int64} : Dn τ (sJ τ' k v) := h
theorem Dn.wAr (h : Dn τ τ') {k : Nat} {f : Nat → Int32} (m : k ∉ dynM) : Dn τ (sAr τ' k f) := fun i hi => by rw [cA_sAr, if_neg (show ¬ i = k from fun q => m (by rw [← q]; exact hi))]; exact h i hi
theorem Dn.wA (h : Dn τ τ') {k i : Nat} {v : Int32} (m : k ∉ dynM) : Dn τ (sA τ' k i v) := h.wAr m
theorem Rrw.up {b N : Nat} {s r : Nat → Int32} (h : Rrw b N (cL σ) (cA σ) s r) (hb : 62 ≤ b) (hU : Up σ σ') : Rrw b N (cL σ') (cA σ') s r := h.to (fun k _ => hU.1 _) (fun k _ => hU.2 _ (by omega))
theorem Rtr.up {n : Nat} (h : Rtr (cL σ) (cA σ) (cA τ) n) (hU : Up σ σ') (hD : Dn τ τ') : Rtr (cL σ') (cA σ') (cA τ') n := h.to (fun k _ => hU.1 k) (fun k hk => hU.2 k (by omega)) hD
end UpDn
section Ops1
variable {σ τ : St}
theorem s_asked (h : R σ τ) : Sim (c_asked σ) (m_asked τ) Eq := ⟨_, _, rfl, rfl, h.eq.I 2 2 (by decide)⟩
theorem s_upper (h : R σ τ) : Sim (c_upper σ) (m_upper τ) Eq := ⟨_, _, rfl, rfl, h.eq.J 3 3 (by decide)⟩
theorem s_lower (h : R σ τ) : Sim (c_lower σ) (m_lower τ) Eq := ⟨_, _, rfl, rfl, h.eq.J 4 4 (by decide)⟩
theorem s_pence (h : R σ τ) : Sim (c_pence σ) (m_pence τ) Eq := ⟨_, _, rfl, rfl, h.eq.J 40 45 (by decide)⟩
theorem s_finding (h : R σ τ) : Sim (c_finding σ) (m_finding τ) Eq := ⟨_, _, rfl, rfl, h.eq.I 0 0 (by decide)⟩
theorem s_findings (h : R σ τ) (a : Int32) : Sim (c_findings σ a) (m_findings τ a) Eq := by
  unfold c_findings m_findings
  rw [m_in_c]
  rcases in_cases a 1 5 with ⟨h1, h2, e⟩ | ⟨-, e⟩
  · obtain ⟨j, hj, rfl⟩ := nI_of2 (M := 5) (n := 5) (by decide) (fun q => h1 (by
      rw [i32_lt] at q ⊢
      have e0 : (0 : Int32).toInt = 0 := by decide
      have e1 : (1 : Int32).toInt = 1 := by decide
      omega)) (Int32.not_lt.mp h2)
    rw [e, B1_some, B1_some, if_neg k10, if_neg k10, rdA_nI (by omega) (by decide), rdA_nI (by omega) (by decide), B1_some, B1_some, B1_some, B1_some, h.eq.A 1 1 (by decide)]
    exact ⟨_, _, rfl, rfl, rfl⟩
  · rw [e, B1_some, B1_some, if_pos k00, if_pos k00]
    exact ⟨_, _, rfl, rfl, rfl⟩
theorem s_partner (h : R σ τ) (a : Int32) : Sim (c_partner σ a) (m_partner τ a) Eq := by
  unfold c_partner m_partner
  rcases tractor_cases a with ⟨k, hk, rfl, e1, e2⟩ | ⟨e1, e2⟩
  · rw [e1, e2, B1_some, B1_some, if_neg k10, if_neg k10, rdA_nI hk (by decide), rdA_nI hk (by decide), B1_some, B1_some, B1_some, B1_some, h.eq.A 43 55 (by decide)]
    exact ⟨_, _, rfl, rfl, rfl⟩
  · rw [e1, e2, B1_some, B1_some, if_pos k00, if_pos k00]
    exact ⟨_, _, rfl, rfl, rfl⟩
theorem s_rented (h : R σ τ) (a : Int32) : Sim (c_rented σ a) (m_rented τ a) Eq := by
  have hq := h.eq
  obtain ⟨w, n, N, q, h1, h2, h3, h4, h5, ⟨h6, h6b, d, hd, hd2⟩, -⟩ := h
  unfold c_rented m_rented
  rw [m_in_c, hq.I 58 69 (by decide), hd2]
  rcases cnt_cases a (nI d) rfl (by omega) with ⟨j, hj, rfl, e⟩ | ⟨-, e⟩
  · rw [e, B1_some, B1_some, if_neg k10, if_neg k10, rdA_nI (by omega) (by decide), rdA_nI (by omega) (by decide), B1_some, B1_some, B1_some, B1_some, hq.A 59 70 (by decide)]
    exact ⟨_, _, rfl, rfl, rfl⟩
  · rw [e, B1_some, B1_some, if_pos k00, if_pos k00]
    exact ⟨_, _, rfl, rfl, rfl⟩
theorem s_looked (h : R σ τ) (a : Int32) : Sim (c_looked σ a) (m_looked τ a) Eq := by
  have hq := h.eq
  obtain ⟨w, n, N, q, h1, h2, h3, h4, h5, ⟨⟨d, hd, hd2⟩, h6b, h6⟩, -⟩ := h
  unfold c_looked m_looked
  rw [m_in_c, hq.I 47 58 (by decide), hd2]
  rw [hd2, nN_nI (by omega)] at h6b
  rcases cnt_cases a (nI d) rfl (by omega) with ⟨j, hj, rfl, e⟩ | ⟨-, e⟩
  · rw [e, B1_some, B1_some, if_neg k10, if_neg k10, rdA_nI (by omega) (by decide), rdA_nI (by omega) (by decide), B1_some, B1_some, B1_some, B1_some, h6b j hj]
    exact ⟨_, _, rfl, rfl, rfl⟩
  · rw [e, B1_some, B1_some, if_pos k00, if_pos k00]
    exact ⟨_, _, rfl, rfl, rfl⟩
theorem Bk.later {n N w w' : Nat} {tr so mi by_ yd lost sld : Nat → Int32} (h : Bk n N w tr so mi by_ yd lost sld) (hw : w ≤ w') : Bk n N w' tr so mi by_ yd lost sld := by
  refine ⟨fun e he => ?_, h.2⟩
  obtain ⟨a1, ⟨j, hj, hj2⟩, a3⟩ := h.1 e he
  exact ⟨a1, ⟨j, by omega, hj2⟩, a3⟩
theorem s_later (h : R σ τ) (a : Int32) : Sim (c_later σ a) (m_later τ a) Rq := by
  by_cases h0 : a < 0
  · unfold c_later m_later
    rw [if_pos h0, if_pos h0]
    exact h.same _
  · obtain ⟨j, hj, rfl⟩ := nI_of h0
    have hR := h
    obtain ⟨w, n, N, q, ⟨c1, c2, c3, c4, c5, c6, c7, c8⟩, h2, h3, h4, h5, h6, h7, h8, h9, h10⟩ := h
    have e11 : cI σ 11 = nI w := (h2.I 11 5 (by decide)).trans c5
    have e9 : (99999 : Int32) - nI w = nI (99999 - w) := pk_sub (a := 99999) c1
    unfold c_later m_later
    rw [if_neg h0, if_neg h0, e11, c5, e9, nI_add]
    by_cases hc : j ≤ 99999 - w
    · rw [if_pos (nI_le hc (by omega)), if_pos (nI_le hc (by omega))]
      exact ⟨_, _, rfl, rfl, rfl, w + j, n, N, q, ⟨by omega, c2, c3, c4, rfl, c6, c7, c8⟩, h2.wI (by decide) rfl, h3, h4, h5, h6, h7.later (by omega), h8, h9, h10⟩
    · rw [if_neg (nI_ge (by omega) (by omega)), if_neg (nI_ge (by omega) (by omega))]
      exact hR.same _
theorem s_law (h : R σ τ) (a b : Int32) : Sim (c_law σ a b) (m_law τ a b) Rq := by
  unfold c_law m_law
  rcases worth_cases a with ⟨i, hi, rfl, e1, e2⟩ | ⟨e1, e2⟩
  · rw [e1, e2, B1_some, B1_some, if_neg k10, if_neg k10]
    rcases worth_cases b with ⟨j, hj, rfl, e3, e4⟩ | ⟨e3, e4⟩
    · rw [e3, e4, B1_some, B1_some, if_neg k10, if_neg k10]
      refine ⟨_, _, rfl, rfl, rfl, h.chg (Req.wI (Req.wI h.eq (by decide) rfl) (by decide) rfl) (fun k hk => ?_) (fun k => rfl) (fun k hk => rfl) (fun k hk => rfl)⟩
      rw [cI_sI, cI_sI, if_neg (fun q => by subst q; revert hk; decide), if_neg (fun q => by subst q; revert hk; decide)]
    · rw [e3, e4, B1_some, B1_some, if_pos k00, if_pos k00]
      exact h.same _
  · rw [e1, e2, B1_some, B1_some, if_pos k00, if_pos k00]
    exact h.same _
/-- on the way -/
theorem onWay_is (h : R σ τ) {k : Nat} (hk : k < 6) : ∃ v : Bool, c_isOnWay σ (nI k) = some (b01 v) ∧ m_isOnWay τ (nI k) = some (b01 v) := by
  unfold c_isOnWay m_isOnWay
  rw [rdA_nI hk (by decide), rdA_nI hk (by decide), B1_some, B1_some, h.eq.A 29 30 (by decide), h.eq.I 11 5 (by decide)]
  by_cases hc : cA τ 30 k ≤ cI τ 5
  · rw [if_pos hc, B1_some, bZ_0, B1_some]
    exact ⟨false, rfl, rfl⟩
  · rw [if_neg hc, B1_some, bZ_1, B1_some]
    exact ⟨true, rfl, rfl⟩
theorem b01_f : b01 false = 0 := rfl
theorem b01_t : b01 true = 1 := rfl
theorem Tk.yard {n : Nat} {stands hit lost yards since has : Nat → Int32} (h : Tk n stands hit lost yards since has) {k y : Nat} (hy : y < 8) : Tk n stands hit lost (upd yards k (nI y)) since has := by
  refine ⟨fun j hj => ?_, h.2⟩
  obtain ⟨a1, a2, a3⟩ := h.1 j hj
  refine ⟨?_, a2, a3⟩
  by_cases q : j = k
  · subst q
    exact ⟨y, hy, upd_at _ _ _⟩
  · rw [upd_ne _ q]
    exact a1
theorem Tk.since {n : Nat} {stands hit lost yards since has : Nat → Int32} (h : Tk n stands hit lost yards since has) {k : Nat} {v : Int32} (hv : isN v 99999) : Tk n stands hit lost yards (upd since k v) has := by
  refine ⟨fun j hj => ?_, h.2⟩
  obtain ⟨a1, a2, a3⟩ := h.1 j hj
  refine ⟨a1, ?_, a3⟩
  by_cases q : j = k
  · subst q
    rw [upd_at]
    exact hv
  · rw [upd_ne _ q]
    exact a2
theorem s_park (h : R σ τ) (a b : Int32) : Sim (c_park σ a b) (m_park τ a b) Rq := by
  unfold c_park m_park
  rcases tractor_cases a with ⟨k, hk, rfl, e1, e2⟩ | ⟨e1, e2⟩
  · rw [e1, e2, B1_some, B1_some, if_neg k10, if_neg k10]
    rcases yard_cases b with ⟨y, hy, rfl, e3, e4⟩ | ⟨-, e3, e4⟩
    · rw [e3, e4, B1_some, B1_some, if_neg k10, if_neg k10]
      obtain ⟨v, e5, e6⟩ := onWay_is h hk
      rw [e5, e6, B1_some, B1_some]
      cases v with
      | true =>
        rw [b01_t, if_neg k10, if_neg k10]
        exact h.same _
      | false =>
        rw [b01_f, if_pos rfl, if_pos rfl, wrA_nI hk (by decide), wrA_nI hk (by decide), B1_some, B1_some, wrA_nI hk (by decide), wrA_nI hk (by decide), B1_some, B1_some, wrA_nI hk (by decide), wrA_nI hk (by decide), B1_some, B1_some]
        obtain ⟨w, n, N, q, h1, h2, h3, h4, h5, h6, h7, h8, h9, h10⟩ := h
        have hU : Up σ (sA (sA (sA σ 28 k (nI y)) 29 k (cI (sA σ 28 k (nI y)) 11)) 31 k 0) := ((Up.rfl.wA (by decide)).wA (by decide)).wA (by decide)
        refine ⟨_, _, rfl, rfl, rfl, w, n, N, q, h1, ((h2.wA (by decide) rfl).wA (by decide) (h2.I 11 5 (by decide))).wA (by decide) rfl, ⟨h3.1.up (by decide) hU, h3.2.up (by decide) hU⟩, h4.up hU (((Dn.rfl.wA (by decide)).wA (by decide)).wA (by decide)), h5, h6, h7, (h8.yard hy).since ⟨w, h1.1, h1.2.2.2.2.1⟩, h9, h10⟩
    · rw [e3, e4, B1_some, B1_some, if_pos k00, if_pos k00]
      exact h.same _
  · rw [e1, e2, B1_some, B1_some, if_pos k00, if_pos k00]
    exact h.same _
/-- what a tractor tells -/
theorem tTells_is (h : R σ τ) {k : Nat} (hk : k < 6) (b : Int32) : ∃ v, c_tractorTells σ (nI k) b = some v ∧ m_tractorTells τ (nI k) b = some v := by
  unfold c_tractorTells m_tractorTells
  simp only [rdA_nI hk (show 6 < 2 ^ 31 by decide), B1_some, h.eq.A 28 29 (by decide), h.eq.A 29 30 (by decide), h.eq.A 30 31 (by decide), h.eq.A 31 32 (by decide), h.eq.A 32 33 (by decide)]
  by_cases h0 : b = 0
  · simp only [if_pos h0]; exact ⟨_, rfl, rfl⟩
  simp only [if_neg h0]
  by_cases h1 : b = 1
  · simp only [if_pos h1]; exact ⟨_, rfl, rfl⟩
  simp only [if_neg h1]
  by_cases h2 : b = 2
  · simp only [if_pos h2]; exact ⟨_, rfl, rfl⟩
  simp only [if_neg h2]
  by_cases h3 : b = 3
  · simp only [if_pos h3]; exact ⟨_, rfl, rfl⟩
  simp only [if_neg h3]
  exact ⟨_, rfl, rfl⟩
theorem s_tractor (h : R σ τ) (a b : Int32) : Sim (c_tractor σ a b) (m_tractor τ a b) Rq := by
  unfold c_tractor m_tractor
  rcases tractor_cases a with ⟨k, hk, rfl, e1, e2⟩ | ⟨e1, e2⟩
  · rw [e1, e2, B1_some, B1_some, if_neg k10, if_neg k10, m_in_c]
    rcases in_cases b 0 4 with ⟨-, -, e3⟩ | ⟨-, e3⟩
    · obtain ⟨v, e4, e5⟩ := tTells_is h hk b
      rw [e3, B1_some, B1_some, if_neg k10, if_neg k10, e4, e5, B1_some, B1_some]
      exact ⟨_, _, rfl, rfl, rfl, h.say rfl⟩
    · rw [e3, B1_some, B1_some, if_pos k00, if_pos k00]
      exact h.same _
  · rw [e1, e2, B1_some, B1_some, if_pos k00, if_pos k00]
    exact h.same _
/-! ways -/
theorem R.ways (h : R σ τ) : wyAll σ ∧ wyAllM τ := by
  have hq := h.eq
  obtain ⟨w, n, N, q, h1, h2, h3, h4, h5, h6, h7, h8, h9, h10⟩ := h
  refine ⟨?_, h10.1⟩
  unfold wyAll
  rw [hq.A 12 11 (by decide), hq.A 13 12 (by decide), hq.A 14 13 (by decide), hq.A 15 14 (by decide)]
  exact h10.1
theorem R.wyEq (h : R σ τ) : wyW 0 σ = wyTm τ ∧ wyW 1 σ = wyPm τ ∧ wyE (cA σ 12) = wyE (cA τ 11) := by
  have hq := h.eq
  unfold wyW wyTm wyPm
  rw [if_pos rfl, if_neg (by decide), hq.A 12 11 (by decide), hq.A 13 12 (by decide), hq.A 14 13 (by decide), hq.A 15 14 (by decide)]
  exact ⟨rfl, rfl, rfl⟩
/-- earliest minutes on both sides -/
theorem R.lead (h : R σ τ) {a s : Nat} (ha : a < 8) (hs : s ≤ 50000000) : ∃ D f g, c_lead σ (nI a) (nI s) 0 = some (sAr (sAr σ 16 f) 17 g) ∧ (∀ y, y < 8 → f y = e9 (D y)) ∧ (∀ y t, y < 8 → D y = some t → s ≤ t ∧ t ≤ s + 28000) ∧ IsEA (wyE (cA τ 11)) (wyTm τ) a s D ∧ ∀ b, b < 8 → ∃ f', m_comesTo τ (nI a) (nI s) (nI b) = some (eM (D b), sAr τ 15 f') := by
  obtain ⟨D, f, g, h1, h2, h3, h4⟩ := lead_is 0 h.ways.1 ha hs
  rw [h.wyEq.1, h.wyEq.2.2] at h1
  exact ⟨D, f, g, h2, h3, h4, h1, fun b hb => comesTo_is h.ways.2 ha hs h1 hb⟩
theorem R.lead16 (h : R σ τ) {f g : Nat → Int32} : R (sAr (sAr σ 16 f) 17 g) τ := h.scr ((ScC.rfl.wAr (by decide)).wAr (by decide)) ScM.rfl
theorem R.come15 (h : R σ τ) {f : Nat → Int32} : R σ (sAr τ 15 f) := h.scr ScC.rfl (ScM.rfl.wAr (by decide))
theorem comesTo_both (h : R σ τ) {a s b : Nat} (ha : a < 8) (hs : s ≤ 50000000) (hb : b < 8) : ∃ o σ' τ', c_comesTo σ (nI a) (nI s) (nI b) = some (e9 o, σ') ∧ m_comesTo τ (nI a) (nI s) (nI b) = some (eM o, τ') ∧ R σ' τ' ∧ ScC σ σ' ∧ ScM τ τ' ∧ ∀ t, o = some t → s ≤ t ∧ t ≤ s + 28000 := by
  obtain ⟨D, f, g, h1, h2, h3, h4, h5⟩ := h.lead ha hs
  obtain ⟨f', h6⟩ := h5 b hb
  refine ⟨D b, _, _, ?_, h6, (h.lead16 (f := f) (g := g)).come15, (ScC.rfl.wAr (by decide)).wAr (by decide), ScM.rfl.wAr (by decide), fun t ht => h3 b t hb ht⟩
  unfold c_comesTo
  rw [h1, B1_some, rdA_nI hb (by decide), B1_some, cA_sAr_ne _ (by decide), cA_sAr_at, h2 b hb]
theorem s_comes (h : R σ τ) (a b c : Int32) : Sim (c_comes σ a b c) (m_comes τ a b c) Rq := by
  unfold c_comes m_comes
  rcases yard_cases a with ⟨x, hx, rfl, e1, e2⟩ | ⟨-, e1, e2⟩
  · rw [e1, e2, B1_some, B1_some, if_neg k10, if_neg k10]
    rcases minute_cases b with ⟨s, hs, rfl, e3, e4⟩ | ⟨e3, e4⟩
    · rw [e3, e4, B1_some, B1_some, if_neg k10, if_neg k10]
      rcases yard_cases c with ⟨y, hy, rfl, e5, e6⟩ | ⟨-, e5, e6⟩
      · obtain ⟨o, σ', τ', g1, g2, g3, -, -, g4⟩ := comesTo_both h hx (s := s) (by omega) hy
        rw [e5, e6, B1_some, B1_some, if_neg k10, if_neg k10, g1, g2, B2_some, B2_some]
        cases o with
        | none =>
          have k1 : e9 none = -9 := rfl
          have k2 : (100000000 : Int32) ≤ eM none := Int32.le_refl _
          rw [if_pos k1, if_pos k2]
          exact found_meets4 g3 (f := 1) (by decide) rfl
        | some t =>
          have hb := (g4 t rfl).2
          have k1 : ¬ e9 (some t) = -9 := nI_n9 (by omega)
          have k2 : ¬ (100000000 : Int32) ≤ eM (some t) := nI_ge (b := 100000000) (by omega) (by decide)
          rw [if_neg k1, if_neg k2]
          exact ⟨_, _, rfl, rfl, rfl, g3⟩
      · rw [e5, e6, B1_some, B1_some, if_pos k00, if_pos k00]
        exact h.same _
    · rw [e3, e4, B1_some, B1_some, if_pos k00, if_pos k00]
      exact h.same _
  · rw [e1, e2, B1_some, B1_some, if_pos k00, if_pos k00]
    exact h.same _
theorem s_toll (h : R σ τ) (a b : Int32) : Sim (c_toll σ a b) (m_toll τ a b) Rq := by
  unfold c_toll m_toll
  rcases yard_cases a with ⟨x, hx, rfl, e1, e2⟩ | ⟨-, e1, e2⟩
  · rw [e1, e2, B1_some, B1_some, if_neg k10, if_neg k10]
    rcases yard_cases b with ⟨y, hy, rfl, e3, e4⟩ | ⟨-, e3, e4⟩
    · obtain ⟨D, f, g, k1, k2, k3, k4⟩ := lead_is (σ := σ) 1 h.ways.1 hx (s := 0) (by decide)
      rw [h.wyEq.2.1, h.wyEq.2.2] at k1
      obtain ⟨τ4, f', k5, k6, k7⟩ := toll_is h.ways.2 hx k1
      have k2' : c_lead σ (nI x) 0 1 = some (sAr (sAr σ 16 f) 17 g) := k2
      rw [e3, e4, B1_some, B1_some, if_neg k10, if_neg k10, k2', B1_some, k5, B1_some, k6, B1_some, rdA_nI hy (by decide), rdA_nI hy (by decide), B1_some, B1_some, B1_some, B1_some, cA_sAr_ne _ (by decide), cA_sAr_at, cA_sAr_at, k3 y hy, k7 y hy]
      have hR := (h.lead16 (f := f) (g := g)).come15 (f := f')
      cases hD : D y with
      | none =>
        have j1 : e9 none = -9 := rfl
        have j2 : (100000000 : Int32) ≤ eM none := Int32.le_refl _
        rw [if_pos j1, if_pos j2]
        exact found_meets4 hR (f := 1) (by decide) rfl
      | some t =>
        have hb := (k4 y t hy hD).2
        have j1 : ¬ e9 (some t) = -9 := nI_n9 (by omega)
        have j2 : ¬ (100000000 : Int32) ≤ eM (some t) := nI_ge (b := 100000000) (by omega) (by decide)
        rw [if_neg j1, if_neg j2]
        exact ⟨_, _, rfl, rfl, rfl, hR⟩
    · rw [e3, e4, B1_some, B1_some, if_pos k00, if_pos k00]
      exact h.same _
  · rw [e1, e2, B1_some, B1_some, if_pos k00, if_pos k00]
    exact h.same _
end Ops1
