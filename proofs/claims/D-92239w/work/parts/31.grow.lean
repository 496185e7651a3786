/-! new arrays: laid under a key that is not reached (109 ints, 119 bytes), then moved where they belong -/
theorem arrV_congr {cI : ClassId} {N : Nat} {f g : Nat → Value} (h : ∀ j, j < N → f j = g j) : arrV cI N f = arrV cI N g := by
  unfold arrV
  congr 2
  funext j
  exact h j j.2
def newD (σ : St) (q n : Nat) (v : Int32) : St := sL (sAr σ q (fun _ => v)) q (some n)
def movD (σ : St) (p d : Nat) : St := sL (sL (sAr σ d (cA σ p)) d (cL σ p)) p none
section Grow
variable {X : Xw} {σ σ' : St} {H H1 : Heap}
theorem rk_eq {ad : Nat → Nat} {j : Nat} (h1 : ad j = xad X j) (h2 : cL σ' j = cL σ j) : rk (xUp X ad) σ' j = rk X σ j := by
  unfold rk
  rw [h2]
  show (if (cL σ j).isSome = true then some (ad j) else none) = _
  rw [h1]
def isFA (ty : FieldType) : Bool := match ty with
  | .array .int => true
  | .array .boolean => true
  | .array .byte => true
  | .array .long => true
  | _ => false
theorem fa_or : ∀ i, i < 62 → isA (tyZ 0 i) = true → isFA (tyZ 0 i) = true ∨ i = 5 ∨ i = 6 ∨ i = 18 := by decide
theorem cellZ_fa {ad : Nat → Nat} {k : Nat} (hk : isFA (tyZ 0 k) = true) (hA : cA σ' k = cA σ k) (hB : cB σ' k = cB σ k) : cellZ 0 (xUp X ad) σ' k = cellZ 0 X σ k := by
  unfold isFA at hk
  unfold cellZ
  split at hk
  · rename_i hh; rw [hh, hA]
  · rename_i hh; rw [hh, hA]
  · rename_i hh; rw [hh, hA]
  · rename_i hh; rw [hh, hB]
  · cases hk
theorem cellZ_5 : cellZ 0 X σ 5 = arrV (xA X 4) 6 (fun j => va_rf (rk X σ (100 + j))) := rfl
theorem cellZ_6 : cellZ 0 X σ 6 = arrV (xA X 5) 4 (fun j => va_rf (rk X σ (110 + j))) := rfl
theorem cellZ_18 : cellZ 0 X σ 18 = arrV (xA X 6) 12 (fun j => va_rf (rk X σ (120 + j))) := rfl
theorem cellZ_up {ad : Nat → Nat} {k : Nat} (hk : k < 62) (ha : isA (tyZ 0 k) = true) (hA : cA σ' k = cA σ k) (hB : cB σ' k = cB σ k) (h5 : k = 5 → ∀ j, j < 6 → rk (xUp X ad) σ' (100 + j) = rk X σ (100 + j)) (h6 : k = 6 → ∀ j, j < 4 → rk (xUp X ad) σ' (110 + j) = rk X σ (110 + j)) (h18 : k = 18 → ∀ j, j < 12 → rk (xUp X ad) σ' (120 + j) = rk X σ (120 + j)) : cellZ 0 (xUp X ad) σ' k = cellZ 0 X σ k := by
  rcases fa_or k hk ha with h | rfl | rfl | rfl
  · exact cellZ_fa h hA hB
  · rw [cellZ_5, cellZ_5]
    exact arrV_congr fun j hj => congrArg va_rf (h5 rfl j hj)
  · rw [cellZ_6, cellZ_6]
    exact arrV_congr fun j hj => congrArg va_rf (h6 rfl j hj)
  · rw [cellZ_18, cellZ_18]
    exact arrV_congr fun j hj => congrArg va_rf (h18 rfl j hj)
theorem dynAt.up {ad : Nat → Nat} {q n : Nat} (h : dynAt X σ q n H) (h1 : ad q = xad X q) (h2 : 120 ≤ q → q < 140 → ad (q + 20) = xad X (q + 20) ∧ ad (q + 40) = xad X (q + 40)) (hA : cA σ' q = cA σ q) (hH : H1[xad X q]? = H[xad X q]?) : dynAt (xUp X ad) σ' q n H1 := by
  obtain ⟨g1, g2, g3⟩ := h
  refine ⟨fun a => ?_, fun a b => ?_, fun a b => ⟨(g3 a b).1, ?_⟩⟩
  · show H1[ad q]? = _
    rw [h1, hH, hA]; exact g1 a
  · show H1[ad q]? = _
    rw [h1, hH, hA]; exact g2 a b
  · have e : tv (xUp X ad) σ' q n = tv X σ q n := by
      funext k
      unfold tv
      rw [hA]
      show (if k = 8 then Value.ref (ad (q + 20)) else if k = 9 then .ref (ad (q + 40)) else _) = _
      rw [(h2 a b).1, (h2 a b).2]
    rw [e]
    show t_OB (ad q) _ _ _ H1 _
    rw [h1]
    exact (g3 a b).2.kept hH
theorem fv_up {ad : Nat → Nat} (had : ∀ k, k < 62 → ad k = xad X k) (hI : cI σ' = cI σ) (hJ : cJ σ' = cJ σ) : ∀ k, k < 62 → fv 0 (xUp X ad) σ' k = fv 0 X σ k := by
  intro k hk
  unfold fv
  rw [hI, hJ]
  split
  · rfl
  · rfl
  · rfl
  · show Value.ref (ad k) = .ref (xad X k)
    rw [had k hk]
  · rfl
theorem Pic.newKey (h : Pic 0 X σ H) {q n a t : Nat} (hq : (q = 109 ∧ t = 0) ∨ (q = 119 ∧ t = 2)) {v : Int32} (ha : H.size ≤ a) (hR : xR X a) (e : H1[a]? = some (arrV (xA X t) n (fun _ => .int v))) (ok : ∀ b : Nat, b < H.size → H1[b]? = H[b]?) : Pic 0 (xUp X (va_up (xad X) q a)) (newD σ q n v) H1 := by
  have hq1 : 100 ≤ q ∧ q < 120 ∧ (∀ j, j < 6 → 100 + j ≠ q) ∧ (∀ j, j < 4 → 110 + j ≠ q) ∧ (∀ j, j < 12 → 120 + j ≠ q) := by rcases hq with ⟨rfl, -⟩ | ⟨rfl, -⟩ <;> refine ⟨by decide, by decide, fun j hj => by omega, fun j hj => by omega, fun j hj => by omega⟩
  have ad1 : ∀ k, k ≠ q → va_up (xad X) q a k = xad X k := fun k hk => by unfold va_up; rw [if_neg hk]
  have ad0 : va_up (xad X) q a q = a := by unfold va_up; rw [if_pos rfl]
  have L1 : ∀ k, k ≠ q → cL (newD σ q n v) k = cL σ k := fun k hk => by unfold newD; rw [cL_sL, if_neg hk, cL_sAr]
  have L0 : cL (newD σ q n v) q = some n := by unfold newD; rw [cL_sL, if_pos rfl]
  have A1 : ∀ k, k ≠ q → cA (newD σ q n v) k = cA σ k := fun k hk => by unfold newD; rw [cA_sL, cA_sAr, if_neg hk]
  have A0 : cA (newD σ q n v) q = fun _ => v := by unfold newD; rw [cA_sL, cA_sAr, if_pos rfl]
  have hrk : ∀ k, k ≠ q → rk (xUp X (va_up (xad X) q a)) (newD σ q n v) k = rk X σ k := fun k hk => rk_eq (ad1 k hk) (L1 k hk)
  have hlv : ∀ k, live 0 (newD σ q n v) k → k ≠ q → live 0 σ k := fun k hk hn => by
    rcases hk with g | ⟨a1, b1, c1⟩
    · exact Or.inl g
    · exact Or.inr ⟨a1, b1, by rw [← L1 k hn]; exact c1⟩
  have hlt := fun {k : Nat} => h.lt (k := k)
  have hlo := h.lto
  obtain ⟨g1, g2, g3, g4, g5, g6⟩ := h
  refine ⟨?_, fun k hk hka => ?_, fun z k m hk hkL => ?_, fun i j hi hj hij => ?_, fun k hk => ?_, g6⟩
  · exact (g1.kept (ok _ hlo)).to (fun k hk => (fv_up (σ := σ) (σ' := newD σ q n v) (fun k hk => ad1 k (by omega)) rfl rfl k hk).symm)
  · show H1[va_up (xad X) q a k]? = _
    have hk62 : k < 62 := hk
    rw [ad1 k (by omega), ok _ (hlt (Or.inl ⟨hk, hka⟩)), cellZ_up hk62 hka (A1 k (by omega)) rfl (fun _ j hj => hrk _ (hq1.2.2.1 j hj)) (fun _ j hj => hrk _ (hq1.2.2.2.1 j hj)) (fun _ j hj => hrk _ (hq1.2.2.2.2 j hj))]
    exact g2 k hk hka
  · by_cases hkq : k = q
    · subst hkq
      rw [L0] at hkL
      cases hkL
      rcases hq with ⟨rfl, rfl⟩ | ⟨rfl, rfl⟩
      · refine ⟨fun _ => ?_, fun hh _ => absurd hh (by decide), fun hh _ => absurd hh (by decide)⟩
        show H1[va_up (xad X) 109 a 109]? = some (arrV (xA X 0) n _)
        rw [ad0, A0]; exact e
      · refine ⟨fun hh => absurd hh (by decide), fun _ _ => ?_, fun hh _ => absurd hh (by decide)⟩
        show H1[va_up (xad X) 119 a 119]? = some (arrV (xA X 2) n _)
        rw [ad0, A0]; exact e
    · rw [L1 k hkq] at hkL
      exact (g3 rfl k m hk hkL).up (ad1 k hkq) (fun _ _ => ⟨ad1 _ (by omega), ad1 _ (by omega)⟩) (A1 k hkq) (ok _ (hlt (Or.inr ⟨rfl, hk, some_is hkL⟩)))
  · have hij : va_up (xad X) q a i = va_up (xad X) q a j := hij
    by_cases hi' : i = q
    · by_cases hj' : j = q
      · rw [hi', hj']
      · rw [hi', ad0, ad1 j hj'] at hij
        have := hlt (hlv j hj hj')
        omega
    · by_cases hj' : j = q
      · rw [hj', ad0, ad1 i hi'] at hij
        have := hlt (hlv i hi hi')
        omega
      · rw [ad1 i hi', ad1 j hj'] at hij
        exact g4 i j (hlv i hi hi') (hlv j hj hj') hij
  · by_cases hk' : k = q
    · show xR X (va_up (xad X) q a k) ∧ va_up (xad X) q a k ≠ xo X
      rw [hk', ad0]
      exact ⟨hR, by omega⟩
    · show xR X (va_up (xad X) q a k) ∧ va_up (xad X) q a k ≠ xo X
      rw [ad1 k hk']
      exact g5 k (hlv k hk hk')
end Grow
