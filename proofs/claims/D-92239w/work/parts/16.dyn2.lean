/-! static methods that see the world, arraycopy, a row torn -/
section Calls2
variable {G : Gx} {own : String} {cc : ByteArray} {nL pc : Nat} {σ σ' σ1 : St} {lv : List (Nat × Value)} {st0 st : List Value} {z : Nat} {X : Xw}
theorem A_iushr (Γ : Ok G own cc nL) {x y : Int32} (d : decode cc pc = .ok (.iushr, 1)) (k : At G nL σ lv (.int ((x.toUInt32 >>> (y.toUInt32 &&& Int32.toUInt32 31)).toInt32) :: st) (pc + 1)) : At G nL σ lv (.int y :: .int x :: st) pc := fun H locs ls hS hP hl => lv_iushr Γ.1 Γ.2.1 d rfl (k H locs ls hS hP hl)
theorem A_callZ (Γ : Ok G own cc nL) (Ξ : OkX z G X) {l : Launch} (hl0 : gl G = l) {y : MethodName} {bytes : ByteArray} {maxL f lo index n : Nat} {ret : Option FieldType} {As : List Value} {rv : Option Value} (hM : MetZ z l X y bytes maxL ret f lo As σ rv σ')
    (hG : GoodIn lw_all (va_wsS own index y (ws_ y bytes maxL ret))) (hd : y.cls ≠ "java/lang/invoke/MethodHandle" ∧ y.cls ≠ "java/lang/invoke/VarHandle" ∧ (parseMethodDescriptor y.desc).map (fun d => d.parameters.length) = some n) (hR : f + 1 ≤ (gR G).frames ∧ 8 + (maxL + 11) + lo ≤ (gR G).locals) (hkk : gk G ≤ (gR G).cells ∧ gn G ≤ (gR G).slots)
    (hn : As.length = n) (hst : st0 = As.reverse ++ st) (hW : (st.map fun v => v.category).sum ≤ 8) (d : decode cc pc = .ok (.invokestatic index, 3)) (kk : At G nL σ' lv (rv.toList ++ st) (pc + 3)) : At G nL σ lv st0 pc := by
  intro H locs ls hS hP hl T hT X0
  subst hl0
  rw [Ξ.2.1] at hP
  have cw : CallB (gR G) (gs G) (gar G) own index y bytes maxL ret (ws_ y bytes maxL ret) (rmF f lo) 0 0 n ∧ (Cond.static y).before (gar G) (gs G) = true := va_cwS n Γ.2.2.2.2 hG rfl rfl rfl hd hR
  have hp : PreS (gs G) H (va_Pc As (fun U => Pic z X σ U.heap ∧ KX X U ∧ XK U)) As := ⟨fun a U g mk q => ⟨q.1, q.2.1, KX.moved (u := U) (U := U.calling g mk a) (Vm.Alike.refl U.vm) q.2.2.1, XK.same (u := U) (U := U.calling g mk a) rfl q.2.2.2⟩, fun U hU hW => ⟨rfl, by rw [hU]; exact hP, KX.moved hW.alike Ξ.1, XK.warm hW Ξ.2.2.2⟩⟩
  obtain ⟨v, st₀, t, T', L, h0, X', hL, e1, e2, ⟨hv, hP1, hz, hk⟩, stp⟩ := va_runS (rest := st) Γ hM cw hp (g := F0 (gm G) pc ls st0) rfl hn hl.1 hst (lv_room (rest := st0) (ls := ls) (pc := pc) (m := gm G) hW) d ⟨hkk.1, hkk.2⟩ T hT X0
  cases hv
  rw [h0] at hz hk
  obtain ⟨t2, a1, b1⟩ := kk T'.heap (locs ++ L) ls ⟨Nat.le_trans hS.1 (by rw [e1]; exact hz), fun q h1 h2 => by rw [e1, hk q (Nat.lt_of_lt_of_le h1 hS.1) (fun w => h2 (by rw [Ξ.2.2.1]; exact w))]; exact hS.2.1 q h1 h2, fun q hq => by
      rcases List.mem_append.mp hq with h | h
      · exact hS.2.2 q h
      · rw [Ξ.2.2.1]; exact hL q h⟩ (by rw [Ξ.2.1, e1]; exact hP1) hl T' rfl X'
  exact ⟨t2, stp t2 a1, b1⟩
end Calls2
/-- arraycopy between two int arrays -/
def cpA (n0 n1 : Nat) (σ : St) (k0 : Nat) (sp : Int32) (k1 : Nat) (dp n : Int32) : Option St :=
  if (sp < 0 ∨ dp < 0 ∨ n < 0) ∨ (n0 < sp.toNatClampNeg + n.toNatClampNeg ∨ n1 < dp.toNatClampNeg + n.toNatClampNeg) then none else some (sAr σ k1 (va_cpy (cA σ k0) (cA σ k1) sp.toNatClampNeg dp.toNatClampNeg n.toNatClampNeg))
theorem cpA_in {n0 n1 : Nat} {σ σ1 : St} {k0 k1 : Nat} {sp dp n : Int32} (h : cpA n0 n1 σ k0 sp k1 dp n = some σ1) : ¬ sp < 0 ∧ ¬ dp < 0 ∧ ¬ n < 0 ∧ sp.toNatClampNeg + n.toNatClampNeg ≤ n0 ∧ dp.toNatClampNeg + n.toNatClampNeg ≤ n1 ∧ σ1 = sAr σ k1 (va_cpy (cA σ k0) (cA σ k1) sp.toNatClampNeg dp.toNatClampNeg n.toNatClampNeg) := by
  unfold cpA at h
  split at h
  · cases h
  · rename_i hn
    refine ⟨fun q => hn (Or.inl (Or.inl q)), fun q => hn (Or.inl (Or.inr (Or.inl q))), fun q => hn (Or.inl (Or.inr (Or.inr q))), ?_, ?_, (Option.some.inj h).symm⟩
    · exact Nat.not_lt.mp fun q => hn (Or.inr (Or.inl q))
    · exact Nat.not_lt.mp fun q => hn (Or.inr (Or.inr q))
section Copy
variable {p : Program} {l : Launch} {e : Env} {R : Room} {s : State} {m : MethodId} {args : Array Value} {below : List Frame} {meth : Method} {c : Code} {H : Heap} {locs : List Loc} {cells slots : Nat} {Q : State → Prop} {cc : ByteArray} {pc : Nat} {ls : Array Slot} {rest : List Value}
theorem W_copy (hexec : p.tables.exec = Jvm.exec) (hb : c.code = cc) (hml : c.maxLocals = ls.size) {own : String} {index : Nat} (hown : s.vm.findClass own = some m.cls) (hlink : (Cond.methodLink own index arraycopyName).before args s = true) (hnat : (Cond.native arraycopyName).before args s = true) (hstat : (Cond.static arraycopyName).before args s = true) (hini : (Cond.initialized "java/lang/System").before args s = true)
    {a0 a : Nat} {c0 c1 : ClassId} {n0 n1 : Nat} {f g : Nat → Int32} (hc0 : H[a0]? = some (vp_cell c0 (n0, .inl f))) (hc1 : H[a]? = some (vp_cell c1 (n1, .inl g))) (ht0 : ArrOfT s c0 .int) (ht1 : ArrOfT s c1 .int)
    {sp dp n : Int32} (h1 : ¬ sp < 0) (h2 : ¬ dp < 0) (h3 : ¬ n < 0) (h4 : sp.toNatClampNeg + n.toNatClampNeg ≤ n0) (h5 : dp.toNatClampNeg + n.toNatClampNeg ≤ n1)
    (hframes : 1 ≤ R.frames) (hlocals : (rest.map fun v => v.category).sum + (nativeFrameWords "java/lang/System" "arraycopy" 5 + 11) ≤ R.locals) (hdg : decode cc pc = .ok (.invokestatic index, 3))
    (kk : ∀ (H1 : Heap) (L : List Loc), H1[a]? = some (vp_cell c1 (n1, .inl (va_cpy f g sp.toNatClampNeg dp.toNatClampNeg n.toNatClampNeg))) → H1.size = H.size → (∀ q : Nat, q ≠ a → H1[q]? = H[q]?) → (∀ w ∈ L, w.base = a) → W p l e R s m args below meth c H1 (locs ++ L) cells slots Q (F0 m (pc + 3) ls rest)) : W p l e R s m args below meth c H locs cells slots Q (F0 m pc ls (.int n :: .int dp :: .ref a :: .int sp :: .ref a0 :: rest)) := by
  have nn : ∀ z : Int32, ¬ z < 0 → z.toInt = (z.toNatClampNeg : Int) := by
    intro z hz
    have hz0 : (0 : Int) ≤ z.toInt := by
      have := Int32.not_lt.mp hz
      simpa using Int32.le_iff_toInt_le.mp this
    show z.toInt = ((z.toInt.toNat : Nat) : Int)
    omega
  intro T hT X
  obtain ⟨-, k0, hk0, cm0, hkk0⟩ := ht0 n0 (fun j => .int (f j))
  obtain ⟨-, k1, hk1, cm1, hkk1⟩ := ht1 n1 (fun j => .int (g j))
  obtain ⟨vm', X', step⟩ := X.arraycopy hexec hown hlink hnat hstat hini (src := a0) (dst := a) (cs := vp_cell c0 (n0, .inl f)) (cd := vp_cell c1 (n1, .inl g)) (srcPos := sp) (destPos := dp) (n := n) (by rw [hT]; exact hc0) (by rw [hT]; exact hc1)
    (fun _ h => by cases h) (fun _ h => by cases h) (fun h => by cases h) (fun h => by cases h) hk0 hk1 hkk0 hkk1 (by simp [refKind]) h1 h2 h3
    (by rw [nn sp h1, nn n h3]; show ¬ _ > ((arrV c0 n0 (fun j => .int (f j))).slots.size : Int); rw [arrV_size]; omega)
    (by rw [nn dp h2, nn n h3]; show ¬ _ > ((arrV c1 n1 (fun j => .int (g j))).slots.size : Int); rw [arrV_size]; omega)
    (fun vm₁ _ i hi => by
      have e : (vp_cell c0 (n0, .inl f)).slots.getD (sp.toNatClampNeg + i) .null = .int (f (sp.toNatClampNeg + i)) := by
        show (arrV c0 n0 (fun j => .int (f j))).slots.getD _ _ = _
        rw [Array.getD_eq_getD_getElem?, arrV_read _ _ (by omega)]
        rfl
      refine ⟨?_, ?_⟩
      · rw [e]
        rfl
      · rw [e]
        exact trivial)
    (g := F0 m pc ls (.int n :: .int dp :: .ref a :: .int sp :: .ref a0 :: rest)) rfl (by rw [hml]) (rest := rest) rfl (by rw [hb]; exact hdg) hframes (by show 2 * 0 + _ + _ ≤ _; omega)
  have e1 : copied (vp_cell c0 (n0, .inl f)) (vp_cell c1 (n1, .inl g)) sp dp n = vp_cell c1 (n1, .inl (va_cpy f g sp.toNatClampNeg dp.toNatClampNeg n.toNatClampNeg)) := va_copied (fun z => .int z) c0 c1 f g h4
  rw [e1] at X' step
  have hl : a < H.size := (Array.getElem?_eq_some_iff.mp hc1).1
  have hheap : ((T.setVm vm').setCell a (vp_cell c1 (n1, .inl (va_cpy f g sp.toNatClampNeg dp.toNatClampNeg n.toNatClampNeg)))).heap = H.setIfInBounds a (vp_cell c1 (n1, .inl (va_cpy f g sp.toNatClampNeg dp.toNatClampNeg n.toNatClampNeg))) := by rw [← hT]; rfl
  obtain ⟨t, a1, b1⟩ := kk _ _ (show (H.setIfInBounds a _)[a]? = some _ by simp [Array.getElem?_setIfInBounds, hl]) (by simp) (fun q hq => by simp [Array.getElem?_setIfInBounds, Ne.symm hq]) (fun w hw => by
      obtain ⟨z, -, hz⟩ := List.mem_map.mp hw
      rw [← hz]) _ hheap X'
  exact ⟨t, step t a1, b1⟩
end Copy
section Copy2
variable {G : Gx} {cc : ByteArray} {nL pc : Nat} {σ σ1 : St} {lv : List (Nat × Value)} {st : List Value} {X : Xw}
theorem va_S.putL {A : Nat → Prop} {H0 H H1 : Heap} {locs L : List Loc} {a : Nat} (h : va_S A H0 H locs) (z : H1.size = H.size) (oq : ∀ q : Nat, q ≠ a → H1[q]? = H[q]?) (ha : A a) (hL : ∀ w ∈ L, w.base = a) : va_S A H0 H1 (locs ++ L) := by
  refine ⟨by rw [z]; exact h.1, fun q h1 h2 => ?_, fun q hq => ?_⟩
  · rw [oq q (fun e => h2 (by rw [e]; exact ha))]
    exact h.2.1 q h1 h2
  · rcases List.mem_append.mp hq with h1 | h1
    · exact h.2.2 q h1
    · rw [hL q h1]
      exact ha
theorem A_copy (Γ : Ok G RX0 cc nL) (Ξ : OkX 0 G X) {k0 k1 n0 n1 : Nat} {sp dp n : Int32} (hk0 : k0 < 62) (ht0 : tyZ 0 k0 = .array .int) (hn0 : lenZ 0 k0 = n0) (hk1 : k1 < 62) (ht1 : tyZ 0 k1 = .array .int) (hn1 : lenZ 0 k1 = n1) (hc : cpA n0 n1 σ k0 sp k1 dp n = some σ1) (hR : 1 ≤ (gR G).frames ∧ (st.map fun v => v.category).sum + (nativeFrameWords "java/lang/System" "arraycopy" 5 + 11) ≤ (gR G).locals) (d : decode cc pc = .ok (.invokestatic 193, 3)) (kk : At G nL σ1 lv st (pc + 3)) : At G nL σ lv (.int n :: .int dp :: .ref (xad X k1) :: .int sp :: .ref (xad X k0) :: st) pc := by
  intro H locs ls hS hP hl
  obtain ⟨h1, h2, h3, h4, h5, rfl⟩ := cpA_in hc
  rw [Ξ.2.1] at hP
  have ha0 : isA (tyZ 0 k0) = true := by rw [ht0]; rfl
  have ha1 : isA (tyZ 0 k1) = true := by rw [ht1]; rfl
  have hz0 : cellZ 0 X σ k0 = vp_cell (xA X 0) (n0, .inl (cA σ k0)) := by unfold cellZ; rw [ht0, hn0]; rfl
  have hz1 : ∀ σ : St, cellZ 0 X σ k1 = vp_cell (xA X 0) (n1, .inl (cA σ k1)) := fun σ => by unfold cellZ; rw [ht1, hn1]; rfl
  have hc0 := hP.2.1 k0 hk0 ha0
  have hc1 := hP.2.1 k1 hk1 ha1
  rw [hz0] at hc0
  rw [hz1] at hc1
  refine W_copy Γ.1 Γ.2.1 (by rw [Γ.2.2.1]; exact hl.1.symm) Γ.2.2.2.1 (Γ.2.2.2.2 _ q461) (Γ.2.2.2.2 _ q463) (Γ.2.2.2.2 _ q462) (Γ.2.2.2.2 _ q73) hc0 hc1 (Ξ.1.2 0 _ rfl).1 (Ξ.1.2 0 _ rfl).1 h1 h2 h3 h4 h5 hR.1 hR.2 d fun H1 L e zz oq hL => ?_
  refine kk H1 _ ls (hS.putL zz oq (by rw [Ξ.2.2.1]; exact (hP.2.2.2.2.1 k1 (Or.inl ⟨hk1, ha1⟩)).1) hL) ?_ hl
  rw [Ξ.2.1]
  refine hP.upA hk1 ha1 ?_ oq (fun _ => rfl) (fun j hj => ?_) (fun _ => rfl) (fun q hq => ?_)
  · rw [e, hz1, cA_sAr, if_pos rfl]
  · have e1 : cA (sAr σ k1 (va_cpy (cA σ k0) (cA σ k1) sp.toNatClampNeg dp.toNatClampNeg n.toNatClampNeg)) j = cA σ j := by rw [cA_sAr, if_neg hj]
    unfold cellZ
    rw [e1]
    rfl
  · rw [cA_sAr, if_neg (by omega)]
/-- a row is torn -/
theorem Pic.tear {H H1 : Heap} {k : Nat} (h : Pic 0 X σ H) (hk : k < 6) (e : H1[xad X 5]? = some ((cellZ 0 X σ 5).setSlot k .null)) (oq : ∀ a : Nat, a ≠ xad X 5 → H1[a]? = H[a]?) : Pic 0 X (sL σ (100 + k) none) H1 := by
  have hl5 : live 0 σ 5 := Or.inl ⟨by decide, rfl⟩
  have hL : ∀ j, j ≠ 100 + k → cL (sL σ (100 + k) none) j = cL σ j := fun j hj => by rw [cL_sL, if_neg hj]
  have hL0 : cL (sL σ (100 + k) none) (100 + k) = none := by rw [cL_sL, if_pos rfl]
  have hv : ∀ j, live 0 (sL σ (100 + k) none) j → live 0 σ j := fun j hj => by
    rcases hj with g | ⟨a, b, c⟩
    · exact Or.inl g
    · by_cases hj : j = 100 + k
      · subst hj; rw [hL0] at c; cases c
      · exact Or.inr ⟨a, b, by rw [← hL j hj]; exact c⟩
  have hr : ∀ j, j ≠ 100 + k → rk X (sL σ (100 + k) none) j = rk X σ j := fun j hj => by unfold rk; rw [hL j hj]
  obtain ⟨g1, g2, g3, g4, g5, g6⟩ := h
  have ne : ∀ j, live 0 σ j → j ≠ 5 → xad X j ≠ xad X 5 := fun j hj hn w => hn (g4 j 5 hj hl5 w)
  refine ⟨g1.kept (oq _ (fun w => (g5 5 hl5).2 w.symm)), fun j a b => ?_, fun a j m b c => ?_, fun i j hi hj => g4 i j (hv i hi) (hv j hj), fun j hj => g5 j (hv j hj), g6⟩
  · by_cases hj : j = 5
    · subst hj
      rw [e]
      show some ((arrV (xA X 4) 6 (fun j => va_rf (rk X σ (100 + j)))).setSlot k .null) = some (arrV (xA X 4) 6 (fun j => va_rf (rk X (sL σ (100 + k) none) (100 + j))))
      rw [arrV_store]
      congr 2
      funext j
      unfold updV
      by_cases hjk : j = k
      · subst hjk
        rw [if_pos rfl, rk_f (by rw [hL0]; exact fun h => by cases h)]
      · rw [if_neg hjk, hr _ (by omega)]
    · rw [oq _ (ne j (Or.inl ⟨a, b⟩) hj)]
      have e6 : (fun j => va_rf (rk X (sL σ (100 + k) none) (110 + j))) = fun j => va_rf (rk X σ (110 + j)) := by funext j; rw [hr _ (by omega)]
      have e7 : (fun j => va_rf (rk X (sL σ (100 + k) none) (120 + j))) = fun j => va_rf (rk X σ (120 + j)) := by funext j; rw [hr _ (by omega)]
      have e5 : tyZ 0 j ≠ .array (.array .int) := by
        intro hh
        have hj62 : j < 62 := a
        have : ∀ i, i < 62 → tyZ 0 i = .array (.array .int) → i = 5 := by decide
        exact hj (this j hj62 hh)
      have ez : cellZ 0 X (sL σ (100 + k) none) j = cellZ 0 X σ j := by
        unfold cellZ
        rw [e6, e7]
        split <;> first | rfl | (rename_i hh; exact absurd hh e5)
      rw [ez]
      exact g2 j a b
  · have hj : j ≠ 100 + k := fun hh => by rw [hh, hL0] at c; cases c
    rw [hL j hj] at c
    exact (g3 a j m b c).kept (oq _ (ne j (Or.inr ⟨a, b, some_is c⟩) (by omega))) rfl
end Copy2
