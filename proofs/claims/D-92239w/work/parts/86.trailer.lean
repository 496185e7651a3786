/-! a new trailer goes to its place -/
def adT (ad : Nat → Nat) (n a b1 b2 : Nat) : Nat → Nat := fun k => if k = 120 + n then a else if k = 140 + n then b1 else if k = 160 + n then b2 else ad k
section Store
variable {X : Xw} {σ : St} {H H1 : Heap} {kd n a b1 b2 : Nat} {V : Nat → Option Value} {y w : Int32}
theorem adT_0 (ad : Nat → Nat) : adT ad n a b1 b2 (120 + n) = a := if_pos rfl
theorem adT_1 (ad : Nat → Nat) : adT ad n a b1 b2 (140 + n) = b1 := by unfold adT; rw [if_neg (by omega), if_pos rfl]
theorem adT_2 (ad : Nat → Nat) : adT ad n a b1 b2 (160 + n) = b2 := by unfold adT; rw [if_neg (by omega), if_neg (by omega), if_pos rfl]
theorem adT_n (ad : Nat → Nat) {k : Nat} (h0 : k ≠ 120 + n) (h1 : k ≠ 140 + n) (h2 : k ≠ 160 + n) : adT ad n a b1 b2 k = ad k := by unfold adT; rw [if_neg h0, if_neg h1, if_neg h2]
theorem tN_L0 : cL (trNew σ n kd y w) (120 + n) = some kd := by
  unfold trNew
  rw [cL_sL, if_neg (by omega), cL_sL, if_neg (by omega), cL_sL, if_pos rfl]
theorem tN_L1 : cL (trNew σ n kd y w) (140 + n) = some 6 := by
  unfold trNew
  rw [cL_sL, if_neg (by omega), cL_sL, if_pos rfl]
theorem tN_L2 : cL (trNew σ n kd y w) (160 + n) = some 6 := by
  unfold trNew
  rw [cL_sL, if_pos rfl]
theorem tN_L {k : Nat} (h0 : k ≠ 120 + n) (h1 : k ≠ 140 + n) (h2 : k ≠ 160 + n) : cL (trNew σ n kd y w) k = cL σ k := by
  unfold trNew
  rw [cL_sL, if_neg h2, cL_sL, if_neg h1, cL_sL, if_neg h0]
  rfl
theorem tN_A0 : cA (trNew σ n kd y w) (120 + n) = fldT kd n y w := by
  unfold trNew
  rw [cA_sL, cA_sL, cA_sL, cA_sAr, if_neg (by omega), cA_sAr, if_neg (by omega), cA_sAr, if_pos rfl]
theorem tN_A1 : cA (trNew σ n kd y w) (140 + n) = fun _ => 0 := by
  unfold trNew
  rw [cA_sL, cA_sL, cA_sL, cA_sAr, if_neg (by omega), cA_sAr, if_pos rfl]
theorem tN_A2 : cA (trNew σ n kd y w) (160 + n) = fun _ => 0 := by
  unfold trNew
  rw [cA_sL, cA_sL, cA_sL, cA_sAr, if_pos rfl]
theorem tN_A {k : Nat} (h0 : k ≠ 120 + n) (h1 : k ≠ 140 + n) (h2 : k ≠ 160 + n) : cA (trNew σ n kd y w) k = cA σ k := by
  unfold trNew
  rw [cA_sL, cA_sL, cA_sL, cA_sAr, if_neg h2, cA_sAr, if_neg h1, cA_sAr, if_neg h0]
theorem TP.store (h : TP X kd a V [b2, b1] σ H) (hkd : kd < 4) (hn : n < 12) (f0 : cL σ (120 + n) = none) (f1 : cL σ (140 + n) = none) (f2 : cL σ (160 + n) = none) (hV : ∀ k, k < NT kd → V k = some (tv (xUp X (adT (xad X) n a b1 b2)) (trNew σ n kd y w) (120 + n) kd k)) (e : H1[xad X 18]? = some ((cellZ 0 X σ 18).setSlot n (.ref a))) (ok : ∀ q : Nat, q ≠ xad X 18 → H1[q]? = H[q]?) : Pic 0 (xUp X (adT (xad X) n a b1 b2)) (trNew σ n kd y w) H1 := by
  obtain ⟨hPic, ⟨cell, c1, c2, c3, c4⟩, ⟨hRa, hao, hal⟩, hB, hnd⟩ := h
  obtain ⟨p1, p2, p3, p4, p5⟩ := hB b1 (by simp)
  obtain ⟨r1, r2, r3, r4, r5⟩ := hB b2 (by simp)
  have hbb : b2 ≠ b1 := (List.pairwise_cons.mp hnd).1 b1 (by simp)
  have hl18 : live 0 σ 18 := Or.inl ⟨by decide, rfl⟩
  have hlv : ∀ j, live 0 (trNew σ n kd y w) j → j ≠ 120 + n → j ≠ 140 + n → j ≠ 160 + n → live 0 σ j := fun j hj h0 h1 h2 => by
    rcases hj with g | ⟨g1, g2, g3⟩
    · exact Or.inl g
    · exact Or.inr ⟨g1, g2, by rw [← tN_L h0 h1 h2]; exact g3⟩
  have hrk : ∀ j, j ≠ 120 + n → j ≠ 140 + n → j ≠ 160 + n → rk (xUp X (adT (xad X) n a b1 b2)) (trNew σ n kd y w) j = rk X σ j := fun j h0 h1 h2 => rk_eq (adT_n _ h0 h1 h2) (tN_L h0 h1 h2)
  have hrd : rk (xUp X (adT (xad X) n a b1 b2)) (trNew σ n kd y w) (120 + n) = some a := by
    unfold rk
    rw [tN_L0, if_pos (show (some kd).isSome = true from rfl)]
    show some (adT (xad X) n a b1 b2 (120 + n)) = _
    rw [adT_0]
  have neF : ∀ j, live 0 σ j → j ≠ 18 → xad X j ≠ xad X 18 := fun j hj hne z => hne (hPic.2.2.2.1 j 18 hj hl18 z)
  have hPic0 := hPic
  obtain ⟨g1, g2, g3, g4, g5, g6⟩ := hPic
  refine ⟨?_, fun j hj hja => ?_, fun z j m hj hjL => ?_, fun i j hi hj hij => ?_, fun j hj => ?_, g6⟩
  · exact (g1.kept (ok _ (fun q => (g5 18 hl18).2 q.symm))).to (fun j hj => (fv_up (σ := σ) (σ' := trNew σ n kd y w) (fun j hj => adT_n _ (by omega) (by omega) (by omega)) rfl rfl j hj).symm)
  · have hj62 : j < 62 := hj
    show H1[adT (xad X) n a b1 b2 j]? = _
    rw [adT_n _ (by omega) (by omega) (by omega)]
    by_cases hjF : j = 18
    · subst hjF
      rw [e, cellZ_18, cellZ_18, arrV_store]
      refine congrArg some (arrV_congr fun i hi => ?_)
      unfold updV
      by_cases hik : i = n
      · subst hik
        rw [if_pos rfl, hrd]; rfl
      · rw [if_neg hik, hrk _ (by omega) (by omega) (by omega)]
    · rw [ok _ (neF j (Or.inl ⟨hj, hja⟩) hjF), cellZ_up hj62 hja (tN_A (by omega) (by omega) (by omega)) rfl (fun _ i hi => hrk _ (by omega) (by omega) (by omega)) (fun _ i hi => hrk _ (by omega) (by omega) (by omega)) (fun h18 => absurd h18 hjF)]
      exact g2 j hj hja
  · by_cases h0 : j = 120 + n
    · subst h0
      rw [tN_L0] at hjL
      cases hjL
      refine ⟨fun hh => by omega, fun _ hh => by omega, fun _ _ => ⟨hkd, ?_⟩⟩
      show t_OB (adT (xad X) n a b1 b2 (120 + n)) _ _ _ H1 _
      rw [adT_0]
      refine ⟨cell, by rw [ok _ (fun q => hal 18 hl18 q.symm)]; exact c1, c2, c3, fun k hk => ?_⟩
      obtain ⟨v, v1, v2⟩ := c4 k hk
      rw [v1, v2 _ (hV k hk)]
    · by_cases h1 : j = 140 + n
      · subst h1
        rw [tN_L1] at hjL
        cases hjL
        refine ⟨fun _ => ?_, fun _ hh => by omega, fun _ hh => by omega⟩
        show H1[adT (xad X) n a b1 b2 (140 + n)]? = _
        rw [adT_1, tN_A1, ok _ (fun q => p5 18 hl18 q.symm)]
        exact p1
      · by_cases h2 : j = 160 + n
        · subst h2
          rw [tN_L2] at hjL
          cases hjL
          refine ⟨fun _ => ?_, fun _ hh => by omega, fun _ hh => by omega⟩
          show H1[adT (xad X) n a b1 b2 (160 + n)]? = _
          rw [adT_2, tN_A2, ok _ (fun q => r5 18 hl18 q.symm)]
          exact r1
        · rw [tN_L h0 h1 h2] at hjL
          exact (g3 rfl j m hj hjL).up (adT_n _ h0 h1 h2) (fun _ _ => ⟨adT_n _ (by omega) (by omega) (by omega), adT_n _ (by omega) (by omega) (by omega)⟩) (tN_A h0 h1 h2) (ok _ (neF j (Or.inr ⟨rfl, hj, some_is hjL⟩) (by omega)))
  · have hij : adT (xad X) n a b1 b2 i = adT (xad X) n a b1 b2 j := hij
    by_cases i0 : i = 120 + n
    · by_cases j0 : j = 120 + n
      · rw [i0, j0]
      · rw [i0, adT_0] at hij
        by_cases j1 : j = 140 + n
        · rw [j1, adT_1] at hij; exact absurd hij.symm p3
        · by_cases j2 : j = 160 + n
          · rw [j2, adT_2] at hij; exact absurd hij.symm r3
          · rw [adT_n _ j0 j1 j2] at hij; exact absurd hij.symm (hal j (hlv j hj j0 j1 j2))
    · by_cases i1 : i = 140 + n
      · by_cases j1 : j = 140 + n
        · rw [i1, j1]
        · rw [i1, adT_1] at hij
          by_cases j0 : j = 120 + n
          · rw [j0, adT_0] at hij; exact absurd hij p3
          · by_cases j2 : j = 160 + n
            · rw [j2, adT_2] at hij; exact absurd hij.symm hbb
            · rw [adT_n _ j0 j1 j2] at hij; exact absurd hij.symm (p5 j (hlv j hj j0 j1 j2))
      · by_cases i2 : i = 160 + n
        · by_cases j2 : j = 160 + n
          · rw [i2, j2]
          · rw [i2, adT_2] at hij
            by_cases j0 : j = 120 + n
            · rw [j0, adT_0] at hij; exact absurd hij r3
            · by_cases j1 : j = 140 + n
              · rw [j1, adT_1] at hij; exact absurd hij hbb
              · rw [adT_n _ j0 j1 j2] at hij; exact absurd hij.symm (r5 j (hlv j hj j0 j1 j2))
        · rw [adT_n _ i0 i1 i2] at hij
          have hli := hlv i hi i0 i1 i2
          by_cases j0 : j = 120 + n
          · rw [j0, adT_0] at hij; exact absurd hij (hal i hli)
          · by_cases j1 : j = 140 + n
            · rw [j1, adT_1] at hij; exact absurd hij (p5 i hli)
            · by_cases j2 : j = 160 + n
              · rw [j2, adT_2] at hij; exact absurd hij (r5 i hli)
              · rw [adT_n _ j0 j1 j2] at hij
                exact g4 i j hli (hlv j hj j0 j1 j2) hij
  · show xR X (adT (xad X) n a b1 b2 j) ∧ adT (xad X) n a b1 b2 j ≠ xo X
    by_cases j0 : j = 120 + n
    · rw [j0, adT_0]; exact ⟨hRa, hao⟩
    · by_cases j1 : j = 140 + n
      · rw [j1, adT_1]; exact ⟨p2, p4⟩
      · by_cases j2 : j = 160 + n
        · rw [j2, adT_2]; exact ⟨r2, r4⟩
        · rw [adT_n _ j0 j1 j2]; exact g5 j (hlv j hj j0 j1 j2)
end Store
def V0 (kd : Nat) : Nat → Option Value := fun j => if (TT kd j).2.1 = "this$0" then none else some (defaultValue (tyT kd j))
theorem V0_VT (kd o : Nat) : VT kd o (V0 kd) := fun j _ he => Or.inl (if_pos he)
/-- words that a new trailer needs -/
def XW (U : State) : Prop := va_Nw (.castable RX3 RX2) U ∧ va_Nw (.castable RX4 RX2) U ∧ va_Nw (.castable RX5 RX2) U
theorem XW.same {u U : State} (h : u.vm = U.vm) (k : XW u) : XW U := ⟨va_Nw.same rfl h k.1, va_Nw.same rfl h k.2.1, va_Nw.same rfl h k.2.2⟩
theorem XW.warm {s U : State} (hW : s.WarmedH U.vm) (k : XW s) : XW U := ⟨va_Nw.warmC hW k.1, va_Nw.warmC hW k.2.1, va_Nw.warmC hW k.2.2⟩
section New
variable {G : Gx} {own : String} {cc : ByteArray} {nL pc : Nat} {σ σ' : St} {lv : List (Nat × Value)} {st : List Value} {X : Xw} {c s kd : Nat}
theorem T_obj (Γ : Ok G own cc nL) (Κ : KX X (gs G) ∧ gA G = xR X ∧ (∀ q : Nat, (gs G).heap.size ≤ q → xR X q)) (hn4 : kd < 4) {index : Nat} (hcl : Cond.classLink own index (CT kd) ∈ lw_all) (hinst : Cond.instantiable (CT kd) (NT kd) ∈ lw_all) (hini : Cond.initialized (CT kd) ∈ lw_all) (hcc : c + 1 ≤ (gR G).cells) (hss : s + NT kd ≤ (gR G).slots) (d : decode cc pc = .ok (.new index, 3))
    (kk : ∀ a : Nat, At (gX G (c + 1) (s + NT kd) (TP X kd a (V0 kd) [])) nL σ lv (.ref a :: st) (pc + 3)) : At (gX G c s (Pic 0 X)) nL σ lv st pc := by
  intro H locs ls hS hP hl
  have hP0 : Pic 0 X σ H := hP
  have hKn := Κ.1.1 (2 + kd) _ (vwT kd hn4)
  refine W.newcK Γ.1 Γ.2.1 Γ.2.2.2.1 (Γ.2.2.2.2 _ hcl) (Γ.2.2.2.2 _ hinst) (Γ.2.2.2.2 _ hini) (g := F0 (gm G) pc ls st) rfl d hcc hss hKn.2.1 rfl fun H1 kC hkC e1 z1 o1 => ?_
  have hb := u_born (tyT kd) Γ.2.2.2.2 (in_T kd hn4) hKn hkC e1 (ty_T kd hn4)
  obtain ⟨cell, w1, w2, w3, w4⟩ := hb
  refine kk H.size H1 locs ls ⟨Nat.le_trans hS.1 (by omega), fun b g1 g2 => (o1 b (Nat.lt_of_lt_of_le g1 hS.1)).trans (hS.2.1 b g1 g2), hS.2.2⟩ ⟨hP0.keptL (o1 _ hP0.lto) (fun k hk => o1 _ (hP0.lt hk)), ⟨cell, w1, w2, w3, fun k hk => ⟨_, w4 k hk, fun w hw => ?_⟩⟩, ⟨Κ.2.2 _ hS.1, by have := hP0.lto; omega, fun k hk => by have := hP0.lt hk; omega⟩, fun b hb => absurd hb (List.not_mem_nil), List.Pairwise.nil⟩ hl
  unfold V0 at hw
  by_cases q : (TT kd k).2.1 = "this$0"
  · rw [if_pos q] at hw; cases hw
  · rw [if_neg q] at hw; exact Option.some.inj hw
theorem asg_T (hK : KX X (gs G)) (hW : XW (gs G)) : ∀ n, n < 4 → ∀ comp, (gs G).vm.findClass RX2 = some comp → (gs G).vm.assignable (xC X (2 + n)) comp = true := by
  have f : ∀ n, n < 4 → (gs G).vm.findClass (CT n) = some (xC X (2 + n)) := fun n hn => (hK.1 (2 + n) _ (vwT n hn)).2.1
  have key : ∀ n, n < 4 → va_Nw (.castable (CT n) RX2) (gs G) → ∀ comp, (gs G).vm.findClass RX2 = some comp → (gs G).vm.assignable (xC X (2 + n)) comp = true := fun n hn hc comp hcomp => by
    obtain ⟨c0, t0, f1, f2, f3⟩ := Cond.castable_spec (va_Nw.use (A := #[]) rfl hc)
    cases (f n hn).symm.trans f1
    cases hcomp.symm.trans f2
    exact f3
  refine n4 (fun comp hcomp => ?_) (key 1 (by decide) hW.1) (key 2 (by decide) hW.2.1) (key 3 (by decide) hW.2.2)
  have e : xC X (2 + 0) = comp := Option.some.inj ((f 0 (by decide)).symm.trans hcomp)
  rw [← e]
  exact vm_assign _ _
theorem T_store (Γ : Ok G own cc nL) (Κ : KX X (gs G) ∧ gA G = xR X) (hW : XW (gs G)) (hkd : kd < 4) {a b1 b2 n : Nat} {V : Nat → Option Value} {y w i : Int32} (hi : ixA 12 i = some n) (f0 : cL σ (120 + n) = none) (f1 : cL σ (140 + n) = none) (f2 : cL σ (160 + n) = none) (hV : ∀ k, k < NT kd → V k = some (tv (xUp X (adT (xad X) n a b1 b2)) (trNew σ n kd y w) (120 + n) kd k)) (d : decode cc pc = .ok (.aastore, 1))
    (kk : ∀ ad : Nat → Nat, At (gX G c s (Pic 0 (xUp X ad))) nL (trNew σ n kd y w) lv st (pc + 1)) : At (gX G c s (TP X kd a V [b2, b1])) nL σ lv (.ref a :: .int i :: .ref (xad X 18) :: st) pc := by
  intro H locs ls hS hP hl
  have hT : TP X kd a V [b2, b1] σ H := hP
  obtain ⟨h1, rfl, h2⟩ := ixA_in hi
  have h0 : ¬ i < 0 := fun q => h1 (Or.inl q)
  have hPic := hT.1
  obtain ⟨cell, w1, w2, w3, w4⟩ := hT.2.1
  have hc := hPic.2.1 18 (by decide) rfl
  obtain ⟨kA, comp, t1, t2, t3, t4⟩ := (Κ.1.2 6 _ rfl).2
  obtain ⟨kc, hkc⟩ := Vm.classAt_of_findClass t3
  have hfK := (Κ.1.1 (2 + kd) _ (vwT kd hkd)).2.1
  obtain ⟨kv, hkv⟩ := Vm.classAt_of_findClass hfK
  refine W.aast Γ.1 Γ.2.1 hc (by rw [cellZ_18]; exact fun q h => by cases h) (by rw [cellZ_18]; exact fun h => by cases h) (by rw [cellZ_18]; exact t1) t2 rfl hkc ⟨h0, by rw [cellZ_18]; show _ < (arrV _ _ _).slots.size; rw [arrV_size]; exact h2⟩ w1 (fun q h => by rw [w3] at h; cases h) (by rw [w2]; exact hkv) (by rw [w2]; exact asg_T Κ.1 hW kd hkd comp t3) (g := F0 (gm G) pc ls (.ref a :: .int i :: .ref (xad X 18) :: st)) rfl rfl d fun H1 e zz oq => ?_
  exact kk (adT (xad X) i.toNatClampNeg a b1 b2) H1 _ ls (hS.put zz oq (by show gA G _; rw [Κ.2]; exact (hPic.2.2.2.2.1 18 (Or.inl ⟨by decide, rfl⟩)).1)) (hT.store hkd h2 f0 f1 f2 hV e oq) hl
end New
