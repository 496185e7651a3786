/-! plain law: pairs, the reference's codes -/
def dg (c j : Nat) : Nat := if j = 0 then c / 36 else if j = 1 then c / 6 % 6 else c % 6
def chn (pe : Nat → Nat → Option Nat) (s : Ps) (c : Nat) : Nat → Option Ps
  | 0 => some s
  | j + 1 => (chn pe s c j).bind fun s => stp pe s (dg c j)
theorem chn_n {pe : Nat → Nat → Option Nat} {s : Ps} {c j : Nat} (h : chn pe s c j = none) : ∀ k, chn pe s c (j + k) = none
  | 0 => h
  | k + 1 => by
    show (chn pe s c (j + k)).bind _ = none
    rw [chn_n h k]
    rfl
theorem chn_3 {pe : Nat → Nat → Option Nat} {s : Ps} {c j : Nat} (h : chn pe s c j = none) (hj : j ≤ 3) : chn pe s c 3 = none := by
  have := chn_n h (3 - j)
  rw [show j + (3 - j) = 3 by omega] at this
  exact this
theorem dg_lt {c j : Nat} (hc : c < 216) : dg c j < 6 := by
  unfold dg
  split
  · omega
  · split <;> omega
/-- codes in order are what the search goes through -/
theorem codes_is (pe : Nat → Nat → Option Nat) (s : Ps) (b : Bs) : itr (fun c b => oB (fun s b => upB b s) (chn pe s c 3) b) 216 b = fo pe 3 s b := by
  have h1 : itr (fun c b => oB (fun s b => upB b s) (chn pe s c 3) b) 216 b = itr (fun c => (fun d e b => oB (fun s b => upB b s) ((stp pe s d).bind fun s1 => (stp pe s1 (e / 6)).bind fun s2 => stp pe s2 (e % 6)) b) (c / 36) (c % 36)) (36 * 6) b := by
    refine itr_eq fun c b hc => ?_
    show oB _ (chn pe s c 3) b = oB _ ((stp pe s (c / 36)).bind fun s1 => (stp pe s1 (c % 36 / 6)).bind fun s2 => stp pe s2 (c % 36 % 6)) b
    have e1 : c % 36 / 6 = c / 6 % 6 := by omega
    have e2 : c % 36 % 6 = c % 6 := by omega
    rw [e1, e2]
    show oB _ ((((some s).bind fun s => stp pe s (c / 36)).bind fun s => stp pe s (c / 6 % 6)).bind fun s => stp pe s (c % 6)) b = _
    cases h : stp pe s (c / 36) with
    | none => show oB _ ((((stp pe s (c / 36))).bind fun s => stp pe s (c / 6 % 6)).bind fun s => stp pe s (c % 6)) b = _; rw [h]; rfl
    | some s1 => show oB _ ((((stp pe s (c / 36))).bind fun s => stp pe s (c / 6 % 6)).bind fun s => stp pe s (c % 6)) b = _; rw [h]; rfl
  rw [h1, itr_mul (fun d e b => oB (fun s b => upB b s) ((stp pe s d).bind fun s1 => (stp pe s1 (e / 6)).bind fun s2 => stp pe s2 (e % 6)) b) (by decide), fo]
  refine itr_eq fun d b hd => ?_
  cases hs : stp pe s d with
  | none => exact itr_id fun j hj => rfl
  | some s1 =>
    show itr (fun e => (fun d1 d2 b => oB (fun s b => upB b s) ((stp pe s1 d1).bind fun s2 => stp pe s2 d2) b) (e / 6) (e % 6)) (6 * 6) b = fo pe 2 s1 b
    rw [itr_mul (fun d1 d2 b => oB (fun s b => upB b s) ((stp pe s1 d1).bind fun s2 => stp pe s2 d2) b) (by decide), fo]
    refine itr_eq fun d b hd => ?_
    cases hs2 : stp pe s1 d with
    | none => exact itr_id fun j hj => rfl
    | some s2 => rfl
section Pairs3
variable {σ σ' σ0 τ τ' τ0 : St} {rr : Nat}
def FrP (τ τ' : St) : Prop := (∀ k, (k < 50 ∨ 54 < k) → cI τ' k = cI τ k) ∧ (∀ k, cJ τ' k = cJ τ k) ∧ ∀ k, k ≠ 15 → k ≠ 56 → cA τ' k = cA τ k
theorem FrP.fr {τ2 : St} (h : FrP τ τ') (k : FrM τ' τ2) : FrP τ τ2 := ⟨fun i h1 => (k.1 i h1).trans (h.1 i h1), fun i => (k.2.1 i).trans (h.2.1 i), fun i h1 h2 => (k.2.2 i h1).trans (h.2.2 i h1 h2)⟩
theorem FrP.w56 (h : FrP τ τ') {f : Nat → Int32} : FrP τ (sAr τ' 56 f) := ⟨h.1, h.2.1, fun i h1 h2 => by rw [cA_sAr_ne _ h2]; exact h.2.2 i h1 h2⟩
theorem FrP.wA (h : FrP τ τ') {i : Nat} {v : Int32} : FrP τ (sA τ' 56 i v) := h.w56
theorem FrP.rfl : FrP τ τ := ⟨fun _ _ => Eq.refl _, fun _ => Eq.refl _, fun _ _ _ => Eq.refl _⟩
theorem FrP.sc (h : FrP τ τ') : ScM τ τ' := ⟨fun k hk => h.1 k (by have := smI_50 k hk; omega), fun k _ => h.2.1 k, fun k hk => h.2.2 k (fun g => hk (by rw [g]; decide)) (fun g => hk (by rw [g]; decide))⟩
theorem pw_init : ∃ f, lq2 (m_partWays_L1) τ 0 = some (sAr τ 56 f) ∧ ∀ j, j < 6 → f j = -9 := by
  have key : ∃ e, lq2 (m_partWays_L1) τ 0 = some e ∧ ∃ f, e = sAr τ 56 f ∧ ∀ j, j < 6 → f j = -9 := by
    unfold lq2
    refine lp_forI 6 (fun i (p : St × Int32) => i ≤ 6 ∧ p.2 = nI i ∧ ∃ f, p.1 = sAr τ 56 f ∧ ∀ j, j < i → f j = -9) _ ?_ (i := 0) ⟨by omega, nI_0.symm, _, (sAr_self τ 56).symm, fun j hj => absurd hj (Nat.not_lt_zero j)⟩
    rintro i ⟨s, z⟩ ⟨hi, hz, f, hs, hf⟩
    dsimp only at hz hs
    subst hz hs
    by_cases h6 : i = 6
    · subst h6
      exact Or.inr ⟨_, by show m_partWays_L1 _ (nI 6) = _; unfold m_partWays_L1; rw [if_pos (by decide)], f, rfl, hf⟩
    · have hi2 : i < 6 := by omega
      refine Or.inl ⟨hi2, (sAr τ 56 (upd f i (-9)), nI i + 1), ?_, by omega, nI_1 i, _, rfl, fun j hj => ?_⟩
      · show m_partWays_L1 _ (nI i) = _
        unfold m_partWays_L1
        rw [if_neg (show ¬ (6 : Int32) ≤ nI i from nI_ge (b := 6) hi2 (by decide)), wrA_nI hi2 (by decide), B1_some, sA_sAr]
      · by_cases q : j = i
        · rw [q, upd_at]
        · rw [upd_ne _ q]; exact hf j (by omega)
  obtain ⟨e, k1, f, rfl, k2⟩ := key
  exact ⟨f, k1, k2⟩
theorem dgI {c j : Nat} (hc : c < 216) (hj : j < 3) : ((if nI j = 0 then some (nI c / 36) else (if nI j = 1 then some ((nI c / 6) - (nI c / 6) / 6 * 6) else some (nI c - nI c / 6 * 6))) : Option Int32) = some (nI (dg c j)) := by
  have e36 : nI c / 36 = nI (c / 36) := pk_div (d := 36) (by omega) (by decide) (by decide)
  have e6 : nI c / 6 = nI (c / 6) := pk_div (d := 6) (by omega) (by decide) (by decide)
  have r1 : nI (c / 6) - nI (c / 6) / 6 * 6 = nI (c / 6 % 6) := pk_rem (d := 6) (by omega) (by decide) (by decide)
  have r2 : nI c - nI c / 6 * 6 = nI (c % 6) := pk_rem (d := 6) (by omega) (by decide) (by decide)
  have : j = 0 ∨ j = 1 ∨ j = 2 := by omega
  rcases this with rfl | rfl | rfl
  · rw [if_pos nI_0, e36]; rfl
  · rw [if_neg (show ¬ nI 1 = 0 by decide), if_pos (show nI 1 = 1 from rfl), e6, r1]; rfl
  · rw [if_neg (show ¬ nI 2 = 0 by decide), if_neg (show ¬ nI 2 = 1 by decide), r2]; rfl
theorem eM_le (o : Option Nat) (h : ∀ t, o = some t → t ≤ 168000) : eM o ≤ 100000000 := by
  cases o with
  | none => exact Int32.le_refl _
  | some t => exact (nI_le (by have := h t rfl; omega) (by decide) : nI t ≤ nI 100000000)
theorem pw_is (h : R σ0 τ0) (hY : rwY τ0 rr) (hrr : rr < 6) (hM : ScM τ0 τ) {S c : Nat} (hS : S < 64) (hc : c < 216) : ∃ τ', m_partWays τ (nI S) (nI rr) (nI c) = some (eM ((chn (pe τ0 rr) (S, 0, fun _ => -9) c 3).map fun s => s.2.1), τ') ∧ FrP τ τ' ∧ ∀ s, chn (pe τ0 rr) (S, 0, fun _ => -9) c 3 = some s → s.2.1 ≤ 168000 ∧ ∀ j, j < 6 → cA τ' 56 j = s.2.2 j := by
  obtain ⟨f, i1, i2⟩ := pw_init (τ := τ)
  generalize hch : chn (pe τ0 rr) (S, 0, fun _ => -9) c = ch
  have hch0 : ch 0 = some (S, 0, fun _ => -9) := by rw [← hch]; rfl
  have hchs : ∀ j, ch (j + 1) = (ch j).bind fun s => stp (pe τ0 rr) s (dg c j) := fun j => by rw [← hch]; rfl
  have hch3 : ∀ j, j ≤ 3 → ch j = none → ch 3 = none := fun j hj hn => by rw [← hch] at hn ⊢; exact chn_3 hn hj
  have key : ∃ e, lq4 (m_partWays_L7 (nI rr) (nI c)) (sAr τ 56 f) (nI S) 0 0 = some e ∧ ((∃ τ1 x, e = Sum.inl (τ1, x) ∧ FrP τ τ1 ∧ ((∃ s, ch 3 = some s ∧ x = nI s.2.1 ∧ s.2.1 ≤ 168000 ∧ ∀ j, j < 6 → cA τ1 56 j = s.2.2 j) ∨ (ch 3 = none ∧ x = 100000000))) ∨ ∃ τ1, e = Sum.inr (100000000, τ1) ∧ FrP τ τ1 ∧ ch 3 = none) := by
    unfold lq4
    refine lp_forI 3 (fun j (p : St × Int32 × Int32 × Int32) => j ≤ 3 ∧ p.2.2.2 = nI j ∧ FrP τ p.1 ∧ ∃ S', S' < 64 ∧ p.2.1 = nI S' ∧ ((∃ a cur, ch j = some (S', a, cur) ∧ p.2.2.1 = nI a ∧ a ≤ 168000 ∧ ∀ i, i < 6 → cA p.1 56 i = cur i) ∨ (ch j = none ∧ p.2.2.1 = 100000000))) _ ?_ (i := 0) ⟨by omega, nI_0.symm, FrP.rfl.w56, S, hS, rfl, Or.inl ⟨0, _, hch0, nI_0.symm, by omega, fun i hi => by rw [cA_sAr_at]; exact i2 i hi⟩⟩
    rintro j ⟨σ8, x9, x10, z⟩ ⟨hj, hz, hF, S', hS', hx9, hal⟩
    dsimp only at hz hF hx9 hal
    subst hz hx9
    by_cases h3 : j = 3
    · subst h3
      refine Or.inr ⟨Sum.inl (σ8, x10), by show m_partWays_L7 _ _ _ _ _ (nI 3) = _; unfold m_partWays_L7; rw [if_pos (by decide)], Or.inl ⟨σ8, x10, rfl, hF, ?_⟩⟩
      rcases hal with ⟨a, cur, g1, g2, g3, g4⟩ | g
      · exact Or.inl ⟨_, g1, g2, g3, g4⟩
      · exact Or.inr g
    · have hj2 : j < 3 := by omega
      have hd := dg_lt (j := j) hc
      have hge : ¬ (3 : Int32) ≤ nI j := nI_ge (b := 3) hj2 (by decide)
      have hx10 : x10 ≤ 100000000 := by
        rcases hal with ⟨a, cur, g1, g2, g3, g4⟩ | ⟨g1, g2⟩
        · rw [g2]; exact (nI_le (by omega) (by decide) : nI a ≤ nI 100000000)
        · rw [g2]; exact Int32.le_refl _
      have fail : (∀ a cur, ch j = some (S', a, cur) → stp (pe τ0 rr) (S', a, cur) (dg c j) = none) → ch 3 = none := fun hn => by
        refine hch3 (j + 1) (by omega) ?_
        rw [hchs]
        rcases hal with ⟨a, cur, g1, -⟩ | ⟨g1, -⟩
        · rw [g1]; exact hn a cur g1
        · rw [g1]; rfl
      have e1 : m_partWays_L7 (nI rr) (nI c) σ8 (nI S') x10 (nI j) = (if nI S' = 0 then (if nI (dg c j) ≤ 0 then some (Sum.inl (σ8, nI S', x10, nI j + 1)) else some (Sum.inr (Sum.inr ((100000000 : Int32), σ8)))) else (B1 (lq1 (m_partWays_L16 (nI S')) 0) fun x18 => if nI (dg c j) = x18 then (some (Sum.inr (Sum.inr ((100000000 : Int32), σ8)))) else (if ((nI S' >>> (nI (dg c j) &&& 31)) &&& 1) = 0 then (some (Sum.inr (Sum.inr ((100000000 : Int32), σ8)))) else (B1 (wrA 6 σ8 56 x18 (nI (dg c j))) fun σ19 => B1 (wrA 6 σ19 56 (nI (dg c j)) x18) fun σ21 => B2 (m_pairEnd σ21 (nI rr) x18 (nI (dg c j))) fun v24 σ25 => B1 ((if v24 ≤ x10 then (some x10) else (some v24)) : Option (Int32)) fun x27 => some (Sum.inl (σ25, nI S' &&& (((1 <<< (x18 &&& 31)) ||| (1 <<< (nI (dg c j) &&& 31))) ^^^ (-1)), x27, nI j + 1)))))) := by
        unfold m_partWays_L7
        rw [if_neg hge, dgI hc hj2, B1_some]
      by_cases h0 : S' = 0
      · subst h0
        rw [if_pos nI_0] at e1
        by_cases hd0 : dg c j = 0
        · rw [hd0, if_pos (show nI 0 ≤ 0 by decide)] at e1
          refine Or.inl ⟨hj2, _, e1, by omega, nI_1 j, hF, 0, by omega, rfl, ?_⟩
          rcases hal with ⟨a, cur, g1, g2, g3, g4⟩ | ⟨g1, g2⟩
          · refine Or.inl ⟨a, cur, ?_, g2, g3, g4⟩
            rw [hchs, g1, hd0]
            exact (stp_0 0).trans (if_pos rfl)
          · exact Or.inr ⟨by rw [hchs, g1]; rfl, g2⟩
        · rw [if_neg (nI_nle (by omega) (by omega))] at e1
          exact Or.inr ⟨_, e1, Or.inr ⟨σ8, rfl, hF, fail fun a cur _ => by rw [stp_0, if_neg hd0]⟩⟩
      · have hS0 : 0 < S' := by omega
        obtain ⟨l1, l2, l3⟩ := lowb_all S' hS' hS0
        rw [if_neg (nI_ne0 hS0 (by omega)), low_C (step := m_partWays_L16 (nI S')) hS' hS0 (fun x => rfl), B1_some] at e1
        by_cases q1 : dg c j = lowb S'
        · rw [if_pos (by rw [q1])] at e1
          exact Or.inr ⟨_, e1, Or.inr ⟨σ8, rfl, hF, fail fun a cur _ => stp_n hS0 (Or.inl q1)⟩⟩
        · rw [if_neg (fun g => q1 ((nI_eq (by omega) (by omega)).mp g)), btI hS' hd] at e1
          by_cases q2 : bt S' (dg c j) = 0
          · rw [q2, if_pos nI_0] at e1
            exact Or.inr ⟨_, e1, Or.inr ⟨σ8, rfl, hF, fail fun a cur _ => stp_n hS0 (Or.inr (Or.inl q2))⟩⟩
          · have q3 : bt S' (dg c j) = 1 := by have := bt_le S' (dg c j); omega
            have hF2 : FrP τ (sA (sA σ8 56 (lowb S') (nI (dg c j))) 56 (dg c j) (nI (lowb S'))) := hF.wA.wA
            obtain ⟨σ25, p1, p2, p3⟩ := pEnd_is h hY hrr (hM.trans hF2.sc) (k := lowb S') (l := dg c j) l1 hd
            have hclr := clr_a1 S' hS' _ l1 _ hd ⟨Ne.symm q1, l2, q3⟩
            have hlt : S' - 2 ^ lowb S' - 2 ^ dg c j < 64 := Nat.lt_of_le_of_lt (Nat.le_trans (Nat.sub_le _ _) (Nat.sub_le _ _)) hS'
            rw [q3, if_neg (show ¬ nI 1 = 0 by decide), wrA_nI l1 (by decide), B1_some, wrA_nI hd (by decide), B1_some, p1, B2_some, hclr] at e1
            have e56 : cA σ25 56 = upd (upd (cA σ8 56) (lowb S') (nI (dg c j))) (dg c j) (nI (lowb S')) := by
              rw [p2.2.2 56 (by decide), cA_sA, if_pos rfl, cA_sA, if_pos rfl]
            rcases hal with ⟨a, cur, g1, g2, g3, g4⟩ | ⟨g1, g2⟩
            · cases hp : pe τ0 rr (lowb S') (dg c j) with
              | none =>
                rw [hp, if_neg (show ¬ eM none ≤ x10 by rw [g2]; exact (nI_ge (by omega) (by decide) : ¬ nI 100000000 ≤ nI a)), B1_some] at e1
                refine Or.inl ⟨hj2, _, e1, by omega, nI_1 j, hF2.fr p2, _, hlt, rfl, Or.inr ⟨?_, rfl⟩⟩
                rw [hchs, g1]
                exact stp_n hS0 (Or.inr (Or.inr hp))
              | some t =>
                have ht := p3 t hp
                rw [hp, g2, show eM (some t) = nI t from rfl, mmax_nI (by omega) (by omega), B1_some] at e1
                rw [← g2] at e1
                refine Or.inl ⟨hj2, _, e1, by omega, nI_1 j, hF2.fr p2, _, hlt, rfl, Or.inl ⟨max t a, upd (upd cur (lowb S') (nI (dg c j))) (dg c j) (nI (lowb S')), ?_, rfl, by omega, fun i hi => ?_⟩⟩
                · rw [hchs, g1]
                  show stp _ _ _ = _
                  rw [stp_s hS0 q1 q3 hp, Nat.max_comm]
                · dsimp only
                  rw [e56]
                  by_cases w1 : i = dg c j
                  · rw [w1, upd_at, upd_at]
                  · rw [upd_ne _ w1, upd_ne _ w1]
                    by_cases w2 : i = lowb S'
                    · rw [w2, upd_at, upd_at]
                    · rw [upd_ne _ w2, upd_ne _ w2]
                      exact g4 i hi
            · rw [if_pos (by rw [g2]; exact eM_le _ p3), B1_some] at e1
              exact Or.inl ⟨hj2, _, e1, by omega, nI_1 j, hF2.fr p2, _, hlt, rfl, Or.inr ⟨by rw [hchs, g1]; rfl, g2⟩⟩
  obtain ⟨e, k1, k2⟩ := key
  unfold m_partWays
  rw [i1, B1_some, k1]
  rcases k2 with ⟨τ1, x, rfl, g1, g2⟩ | ⟨τ1, rfl, g1, g2⟩
  · rw [BR2_l]
    rcases g2 with ⟨s, w1, w2, w3, w4⟩ | ⟨w1, w2⟩
    · rw [w1, w2]
      exact ⟨τ1, rfl, g1, fun s' hs' => by cases hs'; exact ⟨w3, w4⟩⟩
    · rw [w1, w2]
      exact ⟨τ1, rfl, g1, fun s' hs' => by cases hs'⟩
  · rw [BR2_r, g2]
    exact ⟨τ1, rfl, g1, fun s' hs' => by cases hs'⟩
end Pairs3
