/-! newarray and aastore of what is new; row, text -/
abbrev gX (G : Gx) (k n : Nat) (P : St → Heap → Prop) : Gx := (gp G, gl G, ge G, gR G, gs G, gm G, gar G, gbe G, gme G, gc G, k, n, gQ G, P, gA G)
section NewA
variable {G : Gx} {own : String} {cc : ByteArray} {nL pc : Nat} {σ σ' : St} {lv : List (Nat × Value)} {st : List Value} {X : Xw}
theorem OkX.up {k n : Nat} (Ξ : OkX 0 G X) (ad : Nat → Nat) : OkX 0 (gX G k n (Pic 0 (xUp X ad))) (xUp X ad) := ⟨Ξ.1, rfl, Ξ.2.2.1, Ξ.2.2.2⟩
theorem vm_assign (vm : Vm) (c : ClassId) : vm.assignable c c = true := by
  show vm.assignableAux (255 + 1) c c = true
  rw [Vm.assignableAux, Bool.or_eq_true]
  exact Or.inl (by rw [beq_iff_eq])
theorem A_newD (Γ : Ok G own cc nL) (Ξ : OkX 0 G X) (hXT : XT X (gs G)) {q t : Nat} {at_ : ArrayType} (hq : (q = 109 ∧ t = 0 ∧ at_ = .int) ∨ (q = 119 ∧ t = 2 ∧ at_ = .byte)) {n : Int32} {N : Nat} (hn : ¬ n < 0) (hN : n.toNatClampNeg = N) (hb : N ≤ 1000) (hk : gk G + 1 ≤ (gR G).cells) (hs : gn G + N ≤ (gR G).slots) (d : decode cc pc = .ok (.newarray at_, 2))
    (kk : ∀ ad : Nat → Nat, (∀ k, k ≠ q → ad k = xad X k) → At (gX G (gk G + 1) (gn G + N) (Pic 0 (xUp X ad))) nL (newD σ q N 0) lv (.ref (ad q) :: st) (pc + 2)) : At G nL σ lv (.int n :: st) pc := by
  intro H locs ls hS hP hl
  have hw : Cond.arrayClass (newarray.typeOf at_) ∈ lw_all := by rcases hq with ⟨-, -, rfl⟩ | ⟨-, -, rfl⟩ <;> first | exact q291 | exact q386
  have hdv : defaultValue (newarray.typeOf at_) = .int 0 := by rcases hq with ⟨-, -, rfl⟩ | ⟨-, -, rfl⟩ <;> rfl
  have hby : componentBytes (newarray.typeOf at_) ≤ 4 := by rcases hq with ⟨-, -, rfl⟩ | ⟨-, -, rfl⟩ <;> decide
  refine va_newaK Γ.1 Γ.2.1 (Γ.2.2.2.2 _ hw) (g := F0 (gm G) pc ls (.int n :: st)) rfl d rfl hn hN (Nat.le_trans (Nat.mul_le_mul hb hby) (by decide)) hk hs rfl fun H1 cA e1 z1 o1 hAr hNm => ?_
  have hcA : cA = xA X t := by
    rcases hq with ⟨-, rfl, rfl⟩ | ⟨-, rfl, rfl⟩
    · exact Option.some.inj (hNm.symm.trans (Ξ.1.2 0 _ rfl).2)
    · exact Option.some.inj (hNm.symm.trans (Ξ.1.2 2 _ rfl).2)
  subst hcA
  rw [hdv] at e1
  rw [Ξ.2.1] at hP
  have h1 := kk (va_up (xad X) q H.size) (fun k hk => by unfold va_up; rw [if_neg hk]) H1 locs ls ⟨Nat.le_trans hS.1 (by omega), fun b h1 h2 => (o1 b (Nat.lt_of_lt_of_le h1 hS.1)).trans (hS.2.1 b h1 h2), hS.2.2⟩ (hP.newKey (t := t) (by rcases hq with ⟨h1, h2, -⟩ | ⟨h1, h2, -⟩ <;> simp [h1, h2]) (Nat.le_refl _) (hXT.2.2.2.1 _ hS.1) e1 o1) hl
  have e2 : va_up (xad X) q H.size q = H.size := by unfold va_up; rw [if_pos rfl]
  rw [e2] at h1
  exact h1
theorem A_mov (Γ : Ok G own cc nL) (Ξ : OkX 0 G X) (hXT : XT X (gs G)) {p b F N : Nat} (hp : (p = 109 ∧ b = 100 ∧ F = 5 ∧ N = 6) ∨ (p = 119 ∧ b = 110 ∧ F = 6 ∧ N = 4)) {i : Int32} {k : Nat} (hk : ixA N i = some k) (hpl : (cL σ p).isSome = true) (d : decode cc pc = .ok (.aastore, 1))
    (kk : ∀ ad : Nat → Nat, At (gX G (gk G) (gn G) (Pic 0 (xUp X ad))) nL (movD σ p (b + k)) lv st (pc + 1)) : At G nL σ lv (.ref (xad X p) :: .int i :: .ref (xad X F) :: st) pc := by
  intro H locs ls hS hP hl
  obtain ⟨h1, rfl, h2⟩ := ixA_in hk
  rw [Ξ.2.1] at hP
  have h0 : ¬ i < 0 := fun q => h1 (Or.inl q)
  obtain ⟨n, hn⟩ := Option.isSome_iff_exists.mp hpl
  have hF : F < 62 ∧ isA (tyZ 0 F) = true := by rcases hp with ⟨-, -, rfl, -⟩ | ⟨-, -, rfl, -⟩ <;> exact ⟨by decide, rfl⟩
  have hc := hP.2.1 F hF.1 hF.2
  have key : ∃ (t u : Nat) (ty : FieldType) (k : Class), ty.isReference = true ∧ cellZ 0 X σ F = arrV (xA X t) N (fun j => va_rf (rk X σ (b + j))) ∧ (gs G).vm.classes[xA X t]? = some k ∧ k.kind = .array (xA X u) ty ∧ H[xad X p]? = some (arrV (xA X u) n (fun j => .int (cA σ p j))) ∧ ∃ kc : Class, (gs G).vm.classes[xA X u]? = some kc := by
    rcases hp with ⟨rfl, rfl, rfl, rfl⟩ | ⟨rfl, rfl, rfl, rfl⟩
    · obtain ⟨k, hk1, hk2⟩ := hXT.2.2.2.2.1
      exact ⟨4, 0, .array .int, k, rfl, cellZ_5, hk1, hk2, (hP.2.2.1 rfl 109 n (by decide) hn).1 (Or.inl (by decide)), Vm.classAt_of_findClass (Ξ.1.2 0 _ rfl).2⟩
    · obtain ⟨k, hk1, hk2⟩ := hXT.2.2.2.2.2.1
      exact ⟨5, 2, .array .byte, k, rfl, cellZ_6, hk1, hk2, (hP.2.2.1 rfl 119 n (by decide) hn).2.1 (by decide) (by decide), Vm.classAt_of_findClass (Ξ.1.2 2 _ rfl).2⟩
  obtain ⟨t, u, ty, k, hty, hcz, hk1, hk2, hv, kc, hkc⟩ := key
  refine W.aast Γ.1 Γ.2.1 hc (by rw [hcz]; exact fun q h => by cases h) (by rw [hcz]; exact fun h => by cases h) (by rw [hcz]; exact hk1) hk2 hty hkc ⟨h0, by rw [hcz]; show _ < (arrV _ _ _).slots.size; rw [arrV_size]; exact h2⟩ hv (fun q h => by cases h) hkc (vm_assign _ _) (g := F0 (gm G) pc ls (.ref (xad X p) :: .int i :: .ref (xad X F) :: st)) rfl rfl d fun H1 e zz oq => ?_
  exact kk (va_up (xad X) (b + i.toNatClampNeg) (xad X p)) H1 _ ls (hS.put zz oq (by rw [Ξ.2.2.1]; exact (hP.2.2.2.2.1 F (Or.inl hF)).1)) (hP.movKey hp h2 hpl e oq) hl
end NewA
theorem clamp_le {x : Int32} (c : x ≤ 40) (hn : ¬ x < 0) : x.toNatClampNeg ≤ 40 := by
  have h1 := Int32.le_iff_toInt_le.mp c
  have h2 : x.toInt.toNat = x.toNatClampNeg := Int32.toNat_toInt x
  have h3 : (40 : Int32).toInt = 40 := by decide
  omega
noncomputable def c_row (σ : St) (a1 a2 : Int32) : Option (Int32 × St) :=
  B1 (c_isRow a1) fun v2 =>
  if v2 = 0 then (some ((-1), σ)) else
  if a2 ≤ 40 then
    (B1 (ixA 6 a1) fun k =>
    if a2 < 0 then c_found σ 5 else some (a2, movD (newD σ 109 a2.toNatClampNeg 0) 109 (100 + k)))
  else (some ((-1), σ))
set_option maxHeartbeats 4000000 in
set_option maxRecDepth 100000 in
theorem mtX0_row (l : Launch) (htr : l.stackTraces = false) (X : Xw) {σ σ' : St} {a1 a2 : Int32} {r : Int32} (h : c_row σ a1 a2 = some (r, σ')) : MetE l X yX0_row cX0_row 4 (some .int) [(15, 25, 26, 179)] eF eLo eMc eMs [.ref (xo X), .int a1, .int a2] σ (some (.int r)) σ' := MetE.ofAt (by decide) (Nat.le_of_ble_eq_true rfl) (fun G hl Γ Ξ hXT hrows hRm hret => by
  rw [c_row] at h
  have hRU : Rm (gUp G eMc eMs) eF eLo := hRm.rmU (Nat.le_refl _) (Nat.le_refl _)
  have hU : ∀ (pc : Nat) (lv : List (Nat × Value)), retIs cX0_row (some .int) (some (.int r)) pc → At (gUp G eMc eMs) 4 σ' lv [.int r] pc := fun pc lv hd => by
    have h := hret _ (xad X) pc lv hd rfl
    have e : gUp G eMc eMs = gX G eMc eMs (Pic 0 (xUp X (xad X))) := by
      show gX G eMc eMs (gP G) = _
      rw [Ξ.2.1]
    rw [e]
    exact h
  have hup : ∀ {σ : St} {lv : List (Nat × Value)} {st : List Value} {pc : Nat}, At (gUp G eMc eMs) 4 σ lv st pc → At G 4 σ lv st pc := fun k => A_up (k := eMc) (n := eMs) (by rw [hRm.2.1]; exact Nat.zero_le _) (by rw [hRm.2.2]; exact Nat.zero_le _) k
  refine A_iload_n Γ dX0_row_0 1 rfl ?_
  replace h := b1 h
  obtain ⟨v2, e1, h⟩ := h
  refine kX0_X0isRow (F := eF) (LO := eLo) Γ (kpX Ξ) (hRm.rm (Nat.le_refl _) (Nat.le_refl _)) (by decide) (by decide) e1 (Nat.le_of_ble_eq_true rfl) dX0_row_1 ?_
  refine A_if_eq (t := 13) Γ dX0_row_4 (by decide) (fun c => ?_) (fun c => ?_)
  · replace h := it_t c h
    refine A_iconst (v := (-1)) Γ dX0_row_13 (by decide) ?_
    obtain ⟨rfl, rfl⟩ := inj2 h
    exact hup (hU _ _ dX0_row_14)
  · replace h := it_f c h
    refine A_iload_n Γ dX0_row_7 2 rfl ?_
    refine A_bipush (v := 40) Γ dX0_row_8 (by decide) ?_
    refine A_icmp_le (t := 15) Γ dX0_row_10 (by decide) (fun c => ?_) (fun c => ?_)
    · replace h := it_t c h
      replace h := b1 h
      obtain ⟨k, e2, h⟩ := h
      refine A_aload_n Γ dX0_row_15 0 rfl ?_
      refine g0_5 Γ Ξ dX0_row_16 ?_
      refine A_iload_n Γ dX0_row_19 1 rfl ?_
      refine A_iload_n Γ dX0_row_20 2 rfl ?_
      by_cases hn : a2 < 0
      · replace h := it_t hn h
        refine E_msg Γ Ξ hXT (by rw [hl]; exact htr) hRm xm_nas (by decide +kernel) (by decide) (tx_neg hn) hrows (xh_nas Γ hXT (by decide) (by decide)) (thr_nas Γ hn (Nat.le_of_ble_eq_true rfl) dX0_row_21) (fun ea => ?_)
        refine A_astore_n (G := gUp G eMc eMs) (lv' := [(3, .ref ea), (0, .ref (xo X)), (1, .int a1), (2, .int a2)]) Γ dX0_row_26 (by decide) rfl ?_
        refine A_aload_n (G := gUp G eMc eMs) Γ dX0_row_27 1 rfl ?_
        refine A_iconst (G := gUp G eMc eMs) (v := 5) Γ dX0_row_28 (by decide) ?_
        refine kX0_X0found (G := gUp G eMc eMs) Γ Ξ hRU (by decide) (by decide) h (Nat.le_of_ble_eq_true rfl) dX0_row_29 ?_
        exact hU _ _ dX0_row_32
      · replace h := it_f hn h
        obtain ⟨rfl, rfl⟩ := inj2 h
        have hle : a2.toNatClampNeg ≤ 40 := clamp_le c hn
        refine A_newD Γ Ξ hXT (Or.inl ⟨rfl, rfl, rfl⟩) hn rfl (by omega) (by rw [hRm.1, hRm.2.1]; decide) (by rw [hRm.1, hRm.2.2]; show 0 + _ ≤ 2010; omega) dX0_row_21 (fun ad had => ?_)
        rw [← had 5 (by decide)]
        refine A_mov (G := gX G (gk G + 1) (gn G + a2.toNatClampNeg) (Pic 0 (xUp X ad))) (X := xUp X ad) Γ (Ξ.up ad) hXT (Or.inl ⟨rfl, rfl, rfl, rfl⟩) e2 (by unfold newD; rw [cL_sL, if_pos rfl]; rfl) dX0_row_23 (fun ad2 => ?_)
        refine A_iload_n Γ dX0_row_24 2 rfl ?_
        refine A_up (k := eMc) (n := eMs) (by show gk G + 1 ≤ 3; rw [hRm.2.1]; decide) (by show gn G + a2.toNatClampNeg ≤ 2010; rw [hRm.2.2]; omega) ?_
        exact hret _ ad2 _ _ dX0_row_25 rfl
    · replace h := it_f c h
      refine A_iconst (v := (-1)) Γ dX0_row_13 (by decide) ?_
      obtain ⟨rfl, rfl⟩ := inj2 h
      exact hup (hU _ _ dX0_row_14))
