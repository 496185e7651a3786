/-! trailer -/
theorem tv_new {X : Xw} {σ : St} {kd n a b1 b2 : Nat} {y w : Int32} (k : Nat) : tv (xUp X (adT (xad X) n a b1 b2)) (trNew σ n kd y w) (120 + n) kd k = if k = 8 then .ref b1 else if k = 9 then .ref b2 else if k = 10 ∨ k = 12 ∨ k = 14 ∨ (k = 11 ∧ kd = 2) then .ref (xo X) else .int (fldT kd n y w k) := by
  unfold tv
  rw [tN_A0]
  show (if k = 8 then Value.ref (adT (xad X) n a b1 b2 (120 + n + 20)) else if k = 9 then .ref (adT (xad X) n a b1 b2 (120 + n + 40)) else _) = _
  rw [show 120 + n + 20 = 140 + n by omega, show 120 + n + 40 = 160 + n by omega, adT_1, adT_2]
theorem hV_0 {X : Xw} {σ : St} {n a b1 b2 : Nat} {y w : Int32} : ∀ k, k < NT 0 → E2 (V0 0) (xo X) (nI n) y w b1 b2 k = some (tv (xUp X (adT (xad X) n a b1 b2)) (trNew σ n 0 y w) (120 + n) 0 k) := fun k hk => by
  rw [tv_new]
  have hk : k < 11 := hk
  have : k = 0 ∨ k = 1 ∨ k = 2 ∨ k = 3 ∨ k = 4 ∨ k = 5 ∨ k = 6 ∨ k = 7 ∨ k = 8 ∨ k = 9 ∨ k = 10 := by omega
  rcases this with rfl | rfl | rfl | rfl | rfl | rfl | rfl | rfl | rfl | rfl | rfl <;> rfl
theorem hV_1 {X : Xw} {σ : St} {n a b1 b2 : Nat} {y w : Int32} : ∀ k, k < NT 1 → E3 (V0 1) (xo X) (nI n) y w b1 b2 k = some (tv (xUp X (adT (xad X) n a b1 b2)) (trNew σ n 1 y w) (120 + n) 1 k) := fun k hk => by
  rw [tv_new]
  have hk : k < 13 := hk
  have : k = 0 ∨ k = 1 ∨ k = 2 ∨ k = 3 ∨ k = 4 ∨ k = 5 ∨ k = 6 ∨ k = 7 ∨ k = 8 ∨ k = 9 ∨ k = 10 ∨ k = 11 ∨ k = 12 := by omega
  rcases this with rfl | rfl | rfl | rfl | rfl | rfl | rfl | rfl | rfl | rfl | rfl | rfl | rfl <;> rfl
theorem hV_2 {X : Xw} {σ : St} {n a b1 b2 : Nat} {y w : Int32} : ∀ k, k < NT 2 → E4 (V0 2) (xo X) (nI n) y w b1 b2 k = some (tv (xUp X (adT (xad X) n a b1 b2)) (trNew σ n 2 y w) (120 + n) 2 k) := fun k hk => by
  rw [tv_new]
  have hk : k < 12 := hk
  have : k = 0 ∨ k = 1 ∨ k = 2 ∨ k = 3 ∨ k = 4 ∨ k = 5 ∨ k = 6 ∨ k = 7 ∨ k = 8 ∨ k = 9 ∨ k = 10 ∨ k = 11 := by omega
  rcases this with rfl | rfl | rfl | rfl | rfl | rfl | rfl | rfl | rfl | rfl | rfl | rfl <;> rfl
theorem hV_3 {X : Xw} {σ : St} {n a b1 b2 : Nat} {y w : Int32} : ∀ k, k < NT 3 → E5 (V0 3) (xo X) (nI n) y w b1 b2 k = some (tv (xUp X (adT (xad X) n a b1 b2)) (trNew σ n 3 y w) (120 + n) 3 k) := fun k hk => by
  rw [tv_new]
  have hk : k < 15 := hk
  have : k = 0 ∨ k = 1 ∨ k = 2 ∨ k = 3 ∨ k = 4 ∨ k = 5 ∨ k = 6 ∨ k = 7 ∨ k = 8 ∨ k = 9 ∨ k = 10 ∨ k = 11 ∨ k = 12 ∨ k = 13 ∨ k = 14 := by omega
  rcases this with rfl | rfl | rfl | rfl | rfl | rfl | rfl | rfl | rfl | rfl | rfl | rfl | rfl | rfl | rfl <;> rfl
/-- a method of the class that lays new cells but has no handlers -/
def MetN (l : Launch) (X : Xw) (y : MethodName) (cc : ByteArray) (nL : Nat) (ret : Option FieldType) (f lo mc ms : Nat) (av : List Value) (σ : St) (rv : Option Value) (σ' : St) : Prop :=
  Met l y (ws_ y cc nL ret) (rmE f lo mc ms) (va_Pc av (fun U => Pic 0 X σ U.heap ∧ KX X U ∧ XK U ∧ XW U ∧ ∀ q : Nat, U.heap.size ≤ q → xR X q)) (fun _ st oc t => oc = .returned rv ∧ (∃ ad, Pic 0 (xUp X ad) σ' t.heap) ∧ va_F (xR X) st t) mc ms (xR X)
theorem MetN.ofAt {l : Launch} {X : Xw} {y : MethodName} {cc : ByteArray} {nL : Nat} {ret : Option FieldType} {f lo mc ms : Nat} {av : List Value} {σ : St} {rv : Option Value} {σ' : St} (hy : plainName y.cls = true) (hav : (lg_sl av).length ≤ nL)
    (hbody : ∀ G : Gx, gl G = l → Ok G y.cls cc nL → OkX 0 (gX G 0 0 (Pic 0 X)) X → XW (gs G) → (∀ q : Nat, (gs G).heap.size ≤ q → xR X q) → gR G = rmE f lo mc ms → (∀ (ad : Nat → Nat) (c s pc : Nat) (lv : List (Nat × Value)), c ≤ mc → s ≤ ms → retIs cc ret rv pc → At (gX G c s (Pic 0 (xUp X ad))) nL σ' lv rv.toList pc) → At (gX G 0 0 (Pic 0 X)) nL σ (lv_args 0 av) [] 0) : MetN l X y cc nL ret f lo mc ms av σ rv σ' := by
  refine Met.ofW (cc := cc) (maxL := nL) (ret := ret) hy rfl ?_
  intro p e s m args below meth c s₁ B hml hv
  obtain ⟨rfl, hP, hK, hXK, hXW, hRn⟩ := hv
  have hts := atoms_spec (ws := ws_ y cc nL ret) B.pre
  have hts : ∀ w ∈ lw_all, w.before _ s = true := fun w h => hts w (List.mem_cons_of_mem _ h)
  have hown : s.vm.findClass y.cls = some m.cls := findClass_of_methodNamed B.named
  have hl := lv_entry av (n := nL) hav
  rw [lg_entry_eq]
  generalize (lg_sl av ++ List.replicate (nL - (lg_sl av).length) Slot.unset).toArray = ls at hl ⊢
  let G : Gx := (p, l, e, (headSpec (ws_ y cc nL ret) (rmE f lo mc ms)).room, s, m, av.toArray, below, meth, c, 0, 0, MQ below (fun _ st oc t => oc = .returned rv ∧ (∃ ad, Pic 0 (xUp X ad) σ' t.heap) ∧ va_F (xR X) st t) av.toArray s mc ms (xR X), Pic 0 X, xR X)
  refine hbody G rfl ⟨B.exec, B.bytes, hml, hown, hts⟩ ⟨hK, rfl, rfl, hXK⟩ hXW hRn rfl ?_ s.heap [] ls va_S.rf hP hl
  intro ad c1 s1 pc lv hc hs hd H locs ls hS hP hl
  show W p l e _ s m av.toArray below meth c H locs c1 s1 (MQ below (fun _ st oc t => oc = .returned rv ∧ (∃ ad, Pic 0 (xUp X ad) σ' t.heap) ∧ va_F (xR X) st t) av.toArray s mc ms (xR X)) (F0 m pc ls rv.toList)
  refine W.widen hc hs ?_
  exact ret_W B.exec B.bytes B.returns B.notSynchronized (fun t ht hW => ⟨rfl, ⟨ad, by rw [ht]; exact hP⟩, hS.F ht⟩) hS.2.2 hd
theorem in_03 {a r : Int32} (h : c_in a 0 3 = some r) (hr : ¬ r = 0) : ∃ k, k < 4 ∧ a = nI k := by
  rcases rng_cases a 3 (N := 3) (by decide) with ⟨j, h1, h2, -⟩ | ⟨-, h3⟩
  · exact ⟨j, by omega, h2⟩
  · rw [h3] at h
    exact absurd (Option.some.inj h).symm hr
set_option maxHeartbeats 8000000 in
set_option maxRecDepth 100000 in
theorem mtX0_trailer (l : Launch) (X : Xw) {σ σ' : St} {a1 a2 a3 : Int32} {r : Int32} (h : c_trailer σ a1 a2 a3 = some (r, σ')) : MetN l X yX0_trailer cX0_trailer 5 (some .int) 4 130 3 27 [.ref (xo X), .int a1, .int a2, .int a3] σ (some (.int r)) σ' := MetN.ofAt (by decide) (Nat.le_of_ble_eq_true rfl) (fun G hl Γ Ξ hXW hRn hR hret => by
  rw [c_trailer] at h
  have hRm : ∀ c s P, c ≤ 3 → s ≤ 27 → Rm (gX G c s P) 4 130 := fun c s P hc hs => by
    refine ⟨?_, ?_, ?_, ?_⟩
    · show 4 ≤ (gR G).frames; rw [hR]; exact Nat.le_refl _
    · show 130 ≤ (gR G).locals; rw [hR]; exact Nat.le_refl _
    · show c ≤ (gR G).cells; rw [hR]; exact hc
    · show s ≤ (gR G).slots; rw [hR]; exact hs
  have hR0 : Rm (gX G 0 0 (Pic 0 X)) 4 130 := hRm 0 0 _ (by omega) (by omega)
  have Γ0 : Ok (gX G 0 0 (Pic 0 X)) RX0 cX0_trailer 5 := Γ
  have ret0 : ∀ (pc : Nat) (lv : List (Nat × Value)), σ = σ' → retIs cX0_trailer (some .int) (some (.int r)) pc → At (gX G 0 0 (Pic 0 X)) 5 σ lv [.int r] pc := fun pc lv hσ hd => by
    subst hσ
    exact hret (xad X) 0 0 pc lv (by omega) (by omega) hd
  refine A_iload_n Γ0 dX0_trailer_0 1 rfl ?_
  refine A_iconst (v := 0) Γ0 dX0_trailer_1 (by decide) ?_
  refine A_iconst (v := 3) Γ0 dX0_trailer_2 (by decide) ?_
  obtain ⟨v2, e1, h⟩ := b1 h
  refine kX0_X0in (F := 4) (LO := 130) Γ0 (kpX Ξ) hR0 (by decide) (by decide) e1 (Nat.le_of_ble_eq_true rfl) dX0_trailer_3 ?_
  refine A_if_eq (t := 26) Γ0 dX0_trailer_6 (by decide) (fun c => ?_) (fun cv => ?_)
  · replace h := it_t c h
    refine A_iconst (v := (-1)) Γ0 dX0_trailer_26 (by decide) ?_
    obtain ⟨rfl, h2⟩ := inj2 h
    exact ret0 _ _ h2 dX0_trailer_27
  replace h := it_f cv h
  obtain ⟨kd, hkd, rfl⟩ := in_03 e1 cv
  refine A_iload_n Γ0 dX0_trailer_9 2 rfl ?_
  obtain ⟨v4, e2, h⟩ := b1 h
  refine kX0_X0isYard (F := 4) (LO := 130) Γ0 (kpX Ξ) hR0 (by decide) (by decide) e2 (Nat.le_of_ble_eq_true rfl) dX0_trailer_10 ?_
  refine A_if_eq (t := 26) Γ0 dX0_trailer_13 (by decide) (fun c => ?_) (fun cv => ?_)
  · replace h := it_t c h
    refine A_iconst (v := (-1)) Γ0 dX0_trailer_26 (by decide) ?_
    obtain ⟨rfl, h2⟩ := inj2 h
    exact ret0 _ _ h2 dX0_trailer_27
  replace h := it_f cv h
  refine A_iload_n Γ0 dX0_trailer_16 3 rfl ?_
  refine A_iconst (v := 0) Γ0 dX0_trailer_17 (by decide) ?_
  refine A_ldc (v := 100000) Γ0 q556 dX0_trailer_18 ?_
  obtain ⟨v6, e3, h⟩ := b1 h
  refine kX0_X0in (F := 4) (LO := 130) Γ0 (kpX Ξ) hR0 (by decide) (by decide) e3 (Nat.le_of_ble_eq_true rfl) dX0_trailer_20 ?_
  refine A_if_ne (t := 28) Γ0 dX0_trailer_23 (by decide) (fun cv => ?_) (fun c => ?_)
  rotate_left
  · replace h := it_t c h
    refine A_iconst (v := (-1)) Γ0 dX0_trailer_26 (by decide) ?_
    obtain ⟨rfl, h2⟩ := inj2 h
    exact ret0 _ _ h2 dX0_trailer_27
  replace h := it_f cv h
  refine A_aload_n Γ0 dX0_trailer_28 0 rfl ?_
  refine g0_19 Γ0 Ξ dX0_trailer_29 ?_
  refine A_bipush (v := 12) Γ0 dX0_trailer_32 (by decide) ?_
  refine A_icmp_eq (t := 46) Γ0 dX0_trailer_34 (by decide) (fun c => ?_) (fun cv => ?_)
  · replace h := it_t c h
    refine A_bipush (v := (-2)) Γ0 dX0_trailer_46 (by decide) ?_
    obtain ⟨rfl, h2⟩ := inj2 h
    exact ret0 _ _ h2 dX0_trailer_48
  replace h := it_f cv h
  refine A_aload_n Γ0 dX0_trailer_37 0 rfl ?_
  refine g0_22 Γ0 Ξ dX0_trailer_38 ?_
  refine A_bipush (v := 60) Γ0 dX0_trailer_41 (by decide) ?_
  refine A_icmp_ne (t := 49) Γ0 dX0_trailer_43 (by decide) (fun cv => ?_) (fun c => ?_)
  rotate_left
  · replace h := it_t c h
    refine A_bipush (v := (-2)) Γ0 dX0_trailer_46 (by decide) ?_
    obtain ⟨rfl, h2⟩ := inj2 h
    exact ret0 _ _ h2 dX0_trailer_48
  replace h := it_f cv h
  obtain ⟨n, e4, h⟩ := b1 h
  obtain ⟨hin, hn, hn12⟩ := ixA_in e4
  by_cases hfree : (cL σ (120 + n)).isSome = true ∨ (cL σ (140 + n)).isSome = true ∨ (cL σ (160 + n)).isSome = true
  · rw [if_pos hfree] at h; cases h
  rw [if_neg hfree] at h
  have fr : ∀ k, ¬ (cL σ k).isSome = true → cL σ k = none := fun k q => by
    cases hc : cL σ k with
    | none => rfl
    | some v => rw [hc] at q; exact absurd rfl q
  have f0 := fr _ (fun q => hfree (Or.inl q))
  have f1 := fr _ (fun q => hfree (Or.inr (Or.inl q)))
  have f2 := fr _ (fun q => hfree (Or.inr (Or.inr q)))
  have e19 : cI σ 19 = nI n := by
    apply Int32.toInt_inj.mp
    have hp : ¬ cI σ 19 < 0 := fun q => hin (Or.inl q)
    have h2 : (cI σ 19).toInt.toNat = (cI σ 19).toNatClampNeg := Int32.toNat_toInt _
    have h3 : 0 ≤ (cI σ 19).toInt := by
      have := mt Int32.lt_iff_toInt_lt.mpr hp
      have h0 : (0 : Int32).toInt = 0 := by decide
      omega
    rw [nI_toInt (by omega)]
    omega
  obtain ⟨σ9, e5, h⟩ := b1 h
  have hcl : (nI kd).toNatClampNeg = kd := nI_clamp (by omega)
  rw [hcl] at e5
  obtain ⟨rfl, rfl⟩ := inj2 h
  refine A_aload_n Γ0 dX0_trailer_49 0 rfl ?_
  refine g0_19 Γ0 Ξ dX0_trailer_50 ?_
  refine A_istore (lv' := [(4, .int (cI σ 19)), (0, .ref (xo X)), (1, .int (nI kd)), (2, .int a2), (3, .int a3)]) Γ0 dX0_trailer_53 (by decide) rfl ?_
  refine A_aload_n Γ0 dX0_trailer_55 1 rfl ?_
  refine g0_18 Γ0 Ξ dX0_trailer_56 ?_
  refine A_iload Γ0 dX0_trailer_59 0 rfl ?_
  refine A_iload_n Γ0 dX0_trailer_61 2 rfl ?_
  have fin : ∀ (c s : Nat) (V : Nat → Option Value) (a b1 b2 : Nat), c ≤ 3 → s ≤ 27 → (∀ k, k < NT kd → V k = some (tv (xUp X (adT (xad X) n a b1 b2)) (trNew σ n kd a2 a3) (120 + n) kd k)) → At (gX G c s (TP X kd a V [b2, b1])) 5 σ [(4, .int (cI σ 19)), (0, .ref (xo X)), (1, .int (nI kd)), (2, .int a2), (3, .int a3)] [.ref a, .int (cI σ 19), .ref (xad X 18)] 132 := fun c s V a b1 b2 hc hs hV => by
    refine T_store Γ ⟨Ξ.1, Ξ.2.2.1⟩ hXW hkd e4 f0 f1 f2 hV dX0_trailer_132 (fun ad => ?_)
    have Ξ1 : OkX 0 (gX G c s (Pic 0 (xUp X ad))) (xUp X ad) := ⟨Ξ.1, rfl, Ξ.2.2.1, Ξ.2.2.2⟩
    have Γ1 : Ok (gX G c s (Pic 0 (xUp X ad))) RX0 cX0_trailer 5 := Γ
    refine A_aload_n Γ1 dX0_trailer_133 1 rfl ?_
    refine A_dup Γ1 dX0_trailer_134 rfl ?_
    refine g0_19 (X := xUp X ad) Γ1 Ξ1 dX0_trailer_135 ?_
    refine A_iconst (v := 1) Γ1 dX0_trailer_138 (by decide) ?_
    refine A_iadd Γ1 dX0_trailer_139 ?_
    refine p0_19 (X := xUp X ad) Γ1 Ξ1 dX0_trailer_140 ?_
    refine A_aload_n Γ1 dX0_trailer_143 1 rfl ?_
    refine A_iload Γ1 dX0_trailer_144 0 rfl ?_
    refine A_iconst (v := 0) Γ1 dX0_trailer_146 (by decide) ?_
    refine A_iload_n Γ1 dX0_trailer_147 3 rfl ?_
    refine A_iload_n Γ1 dX0_trailer_148 3 rfl ?_
    refine kX0_X0enter (X := xUp X ad) (F := 4) (LO := 130) Γ1 Ξ1 (hRm c s _ hc hs) (by decide) (by decide) e5 (Nat.le_of_ble_eq_true rfl) dX0_trailer_149 ?_
    refine A_iload Γ1 dX0_trailer_152 0 rfl ?_
    exact hret ad c s _ _ hc hs dX0_trailer_154
  have Κ1 : KX X (gs G) ∧ gA G = xR X ∧ (∀ q : Nat, (gs G).heap.size ≤ q → xR X q) := ⟨Ξ.1, Ξ.2.2.1, hRn⟩
  have Κ2 : KX X (gs G) ∧ gA G = xR X ∧ (∀ q : Nat, (gs G).heap.size ≤ q → xR X q) ∧ XK (gs G) := ⟨Ξ.1, Ξ.2.2.1, hRn, Ξ.2.2.2⟩
  have hfr : ∀ f lo, f + 1 ≤ 4 → 8 + (5 + 11) + lo ≤ 130 → f + 1 ≤ (gR G).frames ∧ 8 + (5 + 11) + lo ≤ (gR G).locals := fun f lo h1 h2 => by rw [hR]; exact ⟨h1, h2⟩
  have hce : ∀ c s, c ≤ 3 → s ≤ 27 → c ≤ (gR G).cells ∧ s ≤ (gR G).slots := fun c s h1 h2 => by rw [hR]; exact ⟨h1, h2⟩
  have : kd = 0 ∨ kd = 1 ∨ kd = 2 ∨ kd = 3 := by omega
  rcases this with rfl | rfl | rfl | rfl
  · refine A_if_ne (t := 80) Γ0 dX0_trailer_62 (by decide) (fun w => absurd (show nI 0 = 0 from rfl) w) (fun _ => ?_)
    refine T_obj (kd := 0) Γ Κ1 (by decide) q98 q557 q75 (hce 1 0 (by decide) (by decide)).1 (hce 0 11 (by decide) (by decide)).2 dX0_trailer_65 (fun a => ?_)
    refine A_dup (G := gX G 1 11 (TP X 0 a (V0 0) [])) Γ dX0_trailer_68 rfl ?_
    refine A_aload_n (G := gX G 1 11 (TP X 0 a (V0 0) [])) Γ dX0_trailer_69 1 rfl ?_
    refine A_iload (G := gX G 1 11 (TP X 0 a (V0 0) [])) Γ dX0_trailer_70 0 rfl ?_
    refine A_iload_n (G := gX G 1 11 (TP X 0 a (V0 0) [])) Γ dX0_trailer_72 3 rfl ?_
    refine A_iload_n (G := gX G 1 11 (TP X 0 a (V0 0) [])) Γ dX0_trailer_73 4 rfl ?_
    refine T_call (c := 1) (s := 11) Γ Κ2 (mtX2_init (gl G) X (n := 0) (by decide) _ (cI σ 19) a2 a3 σ (fun j hj _ he => V0_VT 0 _ j hj he)) q75 q558 q559 q560 (hy_init (by decide +kernel)) (hfr 1 20 (by decide) (by decide)) (hce 3 23 (by decide) (by decide)) (Nat.le_of_ble_eq_true rfl) dX0_trailer_74 (fun b1 b2 => ?_)
    refine A_goto (t := 132) (G := gX G 3 23 (TP X 0 a (E2 (V0 0) (xo X) (cI σ 19) a2 a3 b1 b2) [b2, b1])) Γ dX0_trailer_77 (by decide) ?_
    exact fin 3 23 _ a b1 b2 (by decide) (by decide) (by rw [e19]; exact hV_0)
  · refine A_if_ne (t := 80) Γ0 dX0_trailer_62 (by decide) (fun _ => ?_) (fun w => absurd w (by decide))
    refine A_iload_n Γ0 dX0_trailer_80 2 rfl ?_
    refine A_iconst (v := 1) Γ0 dX0_trailer_81 (by decide) ?_
    refine A_icmp_ne (t := 100) Γ0 dX0_trailer_82 (by decide) (fun w => absurd (show nI 1 = 1 from rfl) w) (fun _ => ?_)
    refine T_obj (kd := 1) Γ Κ1 (by decide) q605 q606 q76 (hce 1 0 (by decide) (by decide)).1 (hce 0 13 (by decide) (by decide)).2 dX0_trailer_85 (fun a => ?_)
    refine A_dup (G := gX G 1 13 (TP X 1 a (V0 1) [])) Γ dX0_trailer_88 rfl ?_
    refine A_aload_n (G := gX G 1 13 (TP X 1 a (V0 1) [])) Γ dX0_trailer_89 1 rfl ?_
    refine A_iload (G := gX G 1 13 (TP X 1 a (V0 1) [])) Γ dX0_trailer_90 0 rfl ?_
    refine A_iload_n (G := gX G 1 13 (TP X 1 a (V0 1) [])) Γ dX0_trailer_92 3 rfl ?_
    refine A_iload_n (G := gX G 1 13 (TP X 1 a (V0 1) [])) Γ dX0_trailer_93 4 rfl ?_
    refine T_call (c := 1) (s := 13) Γ Κ2 (mtX3_init (gl G) X (n := 1) (Or.inl rfl) _ (cI σ 19) a2 a3 σ (V0_VT 1 _)) q76 q607 q608 q609 (hy_init (by decide +kernel)) (hfr 2 50 (by decide) (by decide)) (hce 3 25 (by decide) (by decide)) (Nat.le_of_ble_eq_true rfl) dX0_trailer_94 (fun b1 b2 => ?_)
    refine A_goto (t := 132) (G := gX G 3 25 (TP X 1 a (E3 (V0 1) (xo X) (cI σ 19) a2 a3 b1 b2) [b2, b1])) Γ dX0_trailer_97 (by decide) ?_
    exact fin 3 25 _ a b1 b2 (by decide) (by decide) (by rw [e19]; exact hV_1)
  · refine A_if_ne (t := 80) Γ0 dX0_trailer_62 (by decide) (fun _ => ?_) (fun w => absurd w (by decide))
    refine A_iload_n Γ0 dX0_trailer_80 2 rfl ?_
    refine A_iconst (v := 1) Γ0 dX0_trailer_81 (by decide) ?_
    refine A_icmp_ne (t := 100) Γ0 dX0_trailer_82 (by decide) (fun _ => ?_) (fun w => absurd w (by decide))
    refine A_iload_n Γ0 dX0_trailer_100 2 rfl ?_
    refine A_iconst (v := 2) Γ0 dX0_trailer_101 (by decide) ?_
    refine A_icmp_ne (t := 120) Γ0 dX0_trailer_102 (by decide) (fun w => absurd (show nI 2 = 2 from rfl) w) (fun _ => ?_)
    refine T_obj (kd := 2) Γ Κ1 (by decide) q632 q633 q77 (hce 1 0 (by decide) (by decide)).1 (hce 0 12 (by decide) (by decide)).2 dX0_trailer_105 (fun a => ?_)
    refine A_dup (G := gX G 1 12 (TP X 2 a (V0 2) [])) Γ dX0_trailer_108 rfl ?_
    refine A_aload_n (G := gX G 1 12 (TP X 2 a (V0 2) [])) Γ dX0_trailer_109 1 rfl ?_
    refine A_iload (G := gX G 1 12 (TP X 2 a (V0 2) [])) Γ dX0_trailer_110 0 rfl ?_
    refine A_iload_n (G := gX G 1 12 (TP X 2 a (V0 2) [])) Γ dX0_trailer_112 3 rfl ?_
    refine A_iload_n (G := gX G 1 12 (TP X 2 a (V0 2) [])) Γ dX0_trailer_113 4 rfl ?_
    refine T_call (c := 1) (s := 12) Γ Κ2 (mtX4_init (gl G) X _ (cI σ 19) a2 a3 σ (V0_VT 2 _)) q77 q634 q635 q636 (hy_init (by decide +kernel)) (hfr 2 50 (by decide) (by decide)) (hce 3 24 (by decide) (by decide)) (Nat.le_of_ble_eq_true rfl) dX0_trailer_114 (fun b1 b2 => ?_)
    refine A_goto (t := 132) (G := gX G 3 24 (TP X 2 a (E4 (V0 2) (xo X) (cI σ 19) a2 a3 b1 b2) [b2, b1])) Γ dX0_trailer_117 (by decide) ?_
    exact fin 3 24 _ a b1 b2 (by decide) (by decide) (by rw [e19]; exact hV_2)
  · refine A_if_ne (t := 80) Γ0 dX0_trailer_62 (by decide) (fun _ => ?_) (fun w => absurd w (by decide))
    refine A_iload_n Γ0 dX0_trailer_80 2 rfl ?_
    refine A_iconst (v := 1) Γ0 dX0_trailer_81 (by decide) ?_
    refine A_icmp_ne (t := 100) Γ0 dX0_trailer_82 (by decide) (fun _ => ?_) (fun w => absurd w (by decide))
    refine A_iload_n Γ0 dX0_trailer_100 2 rfl ?_
    refine A_iconst (v := 2) Γ0 dX0_trailer_101 (by decide) ?_
    refine A_icmp_ne (t := 120) Γ0 dX0_trailer_102 (by decide) (fun _ => ?_) (fun w => absurd w (by decide))
    refine T_obj (kd := 3) Γ Κ1 (by decide) q653 q654 q78 (hce 1 0 (by decide) (by decide)).1 (hce 0 15 (by decide) (by decide)).2 dX0_trailer_120 (fun a => ?_)
    refine A_dup (G := gX G 1 15 (TP X 3 a (V0 3) [])) Γ dX0_trailer_123 rfl ?_
    refine A_aload_n (G := gX G 1 15 (TP X 3 a (V0 3) [])) Γ dX0_trailer_124 1 rfl ?_
    refine A_iload (G := gX G 1 15 (TP X 3 a (V0 3) [])) Γ dX0_trailer_125 0 rfl ?_
    refine A_iload_n (G := gX G 1 15 (TP X 3 a (V0 3) [])) Γ dX0_trailer_127 3 rfl ?_
    refine A_iload_n (G := gX G 1 15 (TP X 3 a (V0 3) [])) Γ dX0_trailer_128 4 rfl ?_
    refine T_call (c := 1) (s := 15) Γ Κ2 (mtX5_init (gl G) X _ (cI σ 19) a2 a3 σ (V0_VT 3 _)) q78 q655 q656 q657 (hy_init (by decide +kernel)) (hfr 3 80 (by decide) (by decide)) (hce 3 27 (by decide) (by decide)) (Nat.le_of_ble_eq_true rfl) dX0_trailer_129 (fun b1 b2 => ?_)
    exact fin 3 27 _ a b1 b2 (by decide) (by decide) (by rw [e19]; exact hV_3))
