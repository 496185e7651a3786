/-! a new array goes to its place in its table -/
section Move
variable {X : Xw} {σ σ' : St} {H H1 : Heap}
theorem Pic.movKey (h : Pic 0 X σ H) {p b F N k : Nat} (hp : (p = 109 ∧ b = 100 ∧ F = 5 ∧ N = 6) ∨ (p = 119 ∧ b = 110 ∧ F = 6 ∧ N = 4)) (hk : k < N) (hpl : (cL σ p).isSome = true) (e : H1[xad X F]? = some ((cellZ 0 X σ F).setSlot k (.ref (xad X p)))) (ok : ∀ a : Nat, a ≠ xad X F → H1[a]? = H[a]?) : Pic 0 (xUp X (va_up (xad X) (b + k) (xad X p))) (movD σ p (b + k)) H1 := by
  have hF : F < 62 ∧ isA (tyZ 0 F) = true := by rcases hp with ⟨-, -, rfl, -⟩ | ⟨-, -, rfl, -⟩ <;> exact ⟨by decide, rfl⟩
  have hd : 100 ≤ b + k ∧ b + k < 120 ∧ b + k ≠ p ∧ 100 ≤ p ∧ p < 120 := by rcases hp with ⟨rfl, rfl, rfl, rfl⟩ | ⟨rfl, rfl, rfl, rfl⟩ <;> omega
  generalize hdd : b + k = d at hd
  have ad1 : ∀ j, j ≠ d → va_up (xad X) d (xad X p) j = xad X j := fun j hj => by unfold va_up; rw [if_neg hj]
  have ad0 : va_up (xad X) d (xad X p) d = xad X p := by unfold va_up; rw [if_pos rfl]
  have L1 : ∀ j, j ≠ d → j ≠ p → cL (movD σ p d) j = cL σ j := fun j hj hj2 => by unfold movD; rw [cL_sL, if_neg hj2, cL_sL, if_neg hj, cL_sAr]
  have L0 : cL (movD σ p d) d = cL σ p := by unfold movD; rw [cL_sL, if_neg hd.2.2.1, cL_sL, if_pos rfl]
  have Lp : cL (movD σ p d) p = none := by unfold movD; rw [cL_sL, if_pos rfl]
  have A1 : ∀ j, j ≠ d → cA (movD σ p d) j = cA σ j := fun j hj => by unfold movD; rw [cA_sL, cA_sL, cA_sAr, if_neg hj]
  have A0 : cA (movD σ p d) d = cA σ p := by unfold movD; rw [cA_sL, cA_sL, cA_sAr, if_pos rfl]
  have hrk : ∀ j, j ≠ d → j ≠ p → rk (xUp X (va_up (xad X) d (xad X p))) (movD σ p d) j = rk X σ j := fun j hj hj2 => rk_eq (ad1 j hj) (L1 j hj hj2)
  have hrd : rk (xUp X (va_up (xad X) d (xad X p))) (movD σ p d) d = some (xad X p) := by
    unfold rk
    rw [L0, if_pos hpl]
    show some (va_up (xad X) d (xad X p) d) = _
    rw [ad0]
  have hpv : live 0 σ p := Or.inr ⟨rfl, hd.2.2.2.1, hpl⟩
  have hlv : ∀ j, live 0 (movD σ p d) j → j ≠ d → live 0 σ j ∧ j ≠ p := fun j hj hn => by
    rcases hj with g | ⟨a1, b1, c1⟩
    · have : j < 62 := g.1
      exact ⟨Or.inl g, by omega⟩
    · have hjp : j ≠ p := fun hh => by rw [hh, Lp] at c1; cases c1
      exact ⟨Or.inr ⟨a1, b1, by rw [← L1 j hn hjp]; exact c1⟩, hjp⟩
  obtain ⟨g1, g2, g3, g4, g5, g6⟩ := h
  have hlF : live 0 σ F := Or.inl hF
  have neF : ∀ j, live 0 σ j → j ≠ F → xad X j ≠ xad X F := fun j hj hn w => hn (g4 j F hj hlF w)
  refine ⟨?_, fun j hj hja => ?_, fun z j m hj hjL => ?_, fun i j hi hj hij => ?_, fun j hj => ?_, g6⟩
  · exact (g1.kept (ok _ (fun w => (g5 F hlF).2 w.symm))).to (fun j hj => (fv_up (σ := σ) (σ' := movD σ p d) (fun j hj => ad1 j (by omega)) rfl rfl j hj).symm)
  · have hj62 : j < 62 := hj
    show H1[va_up (xad X) d (xad X p) j]? = _
    rw [ad1 j (by omega)]
    by_cases hjF : j = F
    · subst hjF
      rw [e]
      rcases hp with ⟨rfl, rfl, rfl, rfl⟩ | ⟨rfl, rfl, rfl, rfl⟩
      · rw [cellZ_5, cellZ_5, arrV_store]
        refine congrArg some (arrV_congr fun i hi => ?_)
        unfold updV
        by_cases hik : i = k
        · subst hik
          rw [if_pos rfl, hdd, hrd]; rfl
        · rw [if_neg hik, hrk _ (by omega) (by omega)]
      · rw [cellZ_6, cellZ_6, arrV_store]
        refine congrArg some (arrV_congr fun i hi => ?_)
        unfold updV
        by_cases hik : i = k
        · subst hik
          rw [if_pos rfl, hdd, hrd]; rfl
        · rw [if_neg hik, hrk _ (by omega) (by omega)]
    · rw [ok _ (neF j (Or.inl ⟨hj, hja⟩) hjF), cellZ_up hj62 hja (A1 j (by omega)) rfl (fun h5 i hi => hrk _ (by rcases hp with ⟨rfl, rfl, rfl, rfl⟩ | ⟨rfl, rfl, rfl, rfl⟩ <;> omega) (by rcases hp with ⟨rfl, rfl, rfl, rfl⟩ | ⟨rfl, rfl, rfl, rfl⟩ <;> omega)) (fun h6 i hi => hrk _ (by rcases hp with ⟨rfl, rfl, rfl, rfl⟩ | ⟨rfl, rfl, rfl, rfl⟩ <;> omega) (by rcases hp with ⟨rfl, rfl, rfl, rfl⟩ | ⟨rfl, rfl, rfl, rfl⟩ <;> omega)) (fun h18 i hi => hrk _ (by omega) (by omega))]
      exact g2 j hj hja
  · by_cases hjd : j = d
    · subst hjd
      rw [L0] at hjL
      have h0 := g3 rfl p m hd.2.2.2.1 hjL
      have hHp : H1[xad X p]? = H[xad X p]? := ok _ (neF p hpv (by have := hF.1; omega))
      rcases hp with ⟨rfl, rfl, rfl, rfl⟩ | ⟨rfl, rfl, rfl, rfl⟩
      · refine ⟨fun _ => ?_, fun hh _ => by omega, fun hh _ => by omega⟩
        show H1[va_up (xad X) j (xad X 109) j]? = some (arrV (xA X 0) m _)
        rw [ad0, hHp, A0]
        exact h0.1 (Or.inl (by decide))
      · refine ⟨fun hh => by omega, fun _ _ => ?_, fun hh _ => by omega⟩
        show H1[va_up (xad X) j (xad X 119) j]? = some (arrV (xA X 2) m _)
        rw [ad0, hHp, A0]
        exact h0.2.1 (by decide) (by decide)
    · have hjp : j ≠ p := fun hh => by rw [hh, Lp] at hjL; cases hjL
      rw [L1 j hjd hjp] at hjL
      exact (g3 rfl j m hj hjL).up (ad1 j hjd) (fun _ _ => ⟨ad1 _ (by omega), ad1 _ (by omega)⟩) (A1 j hjd) (ok _ (neF j (Or.inr ⟨rfl, hj, some_is hjL⟩) (by have := hF.1; omega)))
  · have hij : va_up (xad X) d (xad X p) i = va_up (xad X) d (xad X p) j := hij
    by_cases hi' : i = d
    · by_cases hj' : j = d
      · rw [hi', hj']
      · rw [hi', ad0, ad1 j hj'] at hij
        have := hlv j hj hj'
        exact absurd (g4 p j hpv this.1 hij).symm this.2
    · by_cases hj' : j = d
      · rw [hj', ad0, ad1 i hi'] at hij
        have := hlv i hi hi'
        exact absurd (g4 i p this.1 hpv hij) this.2
      · rw [ad1 i hi', ad1 j hj'] at hij
        exact g4 i j (hlv i hi hi').1 (hlv j hj hj').1 hij
  · by_cases hj' : j = d
    · show xR X (va_up (xad X) d (xad X p) j) ∧ va_up (xad X) d (xad X p) j ≠ xo X
      rw [hj', ad0]
      exact g5 p hpv
    · show xR X (va_up (xad X) d (xad X p) j) ∧ va_up (xad X) d (xad X p) j ≠ xo X
      rw [ad1 j hj']
      exact g5 j (hlv j hj hj').1
end Move
