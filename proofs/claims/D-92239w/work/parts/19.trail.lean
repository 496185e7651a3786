/-! trailers: calls through them, nest mates, the interface, casts -/
section Trail
variable {G : Gx} {own : String} {cc : ByteArray} {nL pc : Nat} {σ σ' : St} {lv : List (Nat × Value)} {st0 st : List Value} {z : Nat} {X : Xw} {q n : Nat} {v : Value}
abbrev QcZ (z : Nat) (X : Xw) (rv : Option Value) (σ' : St) : State → Outcome → State → Prop := fun st oc t => oc = .returned rv ∧ Pic z X σ' t.heap ∧ va_F (xR X) st t
abbrev PcZ (z : Nat) (X : Xw) (av : List Value) (σ : St) : Array Value → State → Prop := va_Pc av (fun U => Pic z X σ U.heap ∧ KX X U ∧ XK U)
theorem PcZ_blind {av : List Value} {σ : St} : FrameBlind (PcZ z X av σ) := fun a U g mk q => ⟨q.1, q.2.1, KX.moved (u := U) (U := U.calling g mk a) (Vm.Alike.refl U.vm) q.2.2.1, XK.same (u := U) (U := U.calling g mk a) rfl q.2.2.2⟩
theorem PcZ_pre {H : Heap} (Ξ : OkX z G X) (hP : Pic z X σ H) (av : List Value) : ∀ U : State, U.heap = H → (gs G).WarmedH U.vm → PcZ z X av σ av.toArray U := fun U hU hW => ⟨rfl, by rw [hU]; exact hP, KX.moved hW.alike Ξ.1, XK.warm hW Ξ.2.2.2⟩
/-- behind a call -/
theorem A_run (Ξ : OkX z G X) {rv : Option Value} (hr : ∀ (H : Heap) (locs : List Loc) (ls : Array Slot), Pic z X σ H → lv_has ls nL lv → va_Run (gp G) (gl G) (ge G) (gR G) (gs G) (gm G) (gar G) (gbe G) (gme G) (gc G) H locs (gk G) (gn G) 0 0 (F0 (gm G) pc ls st0) st (QcZ z X rv σ') (xR X)) (kk : At G nL σ' lv (rv.toList ++ st) (pc + 3)) : At G nL σ lv st0 pc := by
  intro H locs ls hS hP hl T hT X0
  rw [Ξ.2.1] at hP
  obtain ⟨v, st₀, t, T', L, h0, X', hL, e1, e2, ⟨hv, hP1, hz, hk⟩, stp⟩ := hr H locs ls hP hl T hT X0
  cases hv
  rw [h0] at hz hk
  obtain ⟨t2, a1, b1⟩ := kk T'.heap (locs ++ L) ls ⟨Nat.le_trans hS.1 (by rw [e1]; exact hz), fun q h1 h2 => by rw [e1, hk q (Nat.lt_of_lt_of_le h1 hS.1) (fun w => h2 (by rw [Ξ.2.2.1]; exact w))]; exact hS.2.1 q h1 h2, fun q hq => by
      rcases List.mem_append.mp hq with h | h
      · exact hS.2.2 q h
      · rw [Ξ.2.2.1]; exact hL q h⟩ (by rw [Ξ.2.1, e1]; exact hP1) hl T' rfl X'
  exact ⟨t2, stp t2 a1, b1⟩
theorem A_run5 (Ξ : OkX z G X) {rv : Option Value} (hr : ∀ (H : Heap) (locs : List Loc) (ls : Array Slot), Pic z X σ H → lv_has ls nL lv → va_Run5 (gp G) (gl G) (ge G) (gR G) (gs G) (gm G) (gar G) (gbe G) (gme G) (gc G) H locs (gk G) (gn G) 0 0 (F0 (gm G) pc ls st0) st (QcZ z X rv σ') (xR X)) (kk : At G nL σ' lv (rv.toList ++ st) (pc + 5)) : At G nL σ lv st0 pc := by
  intro H locs ls hS hP hl T hT X0
  rw [Ξ.2.1] at hP
  obtain ⟨v, st₀, t, T', L, h0, X', hL, e1, e2, ⟨hv, hP1, hz, hk⟩, stp⟩ := hr H locs ls hP hl T hT X0
  cases hv
  rw [h0] at hz hk
  obtain ⟨t2, a1, b1⟩ := kk T'.heap (locs ++ L) ls ⟨Nat.le_trans hS.1 (by rw [e1]; exact hz), fun q h1 h2 => by rw [e1, hk q (Nat.lt_of_lt_of_le h1 hS.1) (fun w => h2 (by rw [Ξ.2.2.1]; exact w))]; exact hS.2.1 q h1 h2, fun q hq => by
      rcases List.mem_append.mp hq with h | h
      · exact hS.2.2 q h
      · rw [Ξ.2.2.1]; exact hL q h⟩ (by rw [Ξ.2.1, e1]; exact hP1) hl T' rfl X'
  exact ⟨t2, stp t2 a1, b1⟩
theorem tr_n4 {H : Heap} (hP : Pic 0 X σ H) (hq : kTr q) (hL : cL σ q = some n) : n < 4 := ((hP.2.2.1 rfl q n (by have := hq.1; omega) hL).2.2 hq.1 hq.2).1
theorem tr_recv {H : Heap} (Ξ : OkX 0 G X) (hP : Pic 0 X σ H) (hq : kTr q) (hL : cL σ q = some n) : ∃ cellB : Cell, H[xad X q]? = some cellB ∧ cellB.vm.isStatics = false ∧ (gs G).vm.findClass (CT n) = some cellB.cls := by
  obtain ⟨hn4, cell, q1, q2, q3, -⟩ := (hP.2.2.1 rfl q n (by have := hq.1; omega) hL).2.2 hq.1 hq.2
  exact ⟨cell, q1, by rw [q3]; rfl, by rw [q2]; exact (Ξ.1.1 (2 + n) _ (vwT n hn4)).2.1⟩
theorem tr_class (Ξ : OkX 0 G X) (hn : n < 4) : ClassAt (gs G) (CT n) (xC X (2 + n)) := (Ξ.1.1 (2 + n) _ (vwT n hn)).2
/-- a virtual call through a trailer of kind n: x is named, y runs -/
theorem A_callU (Γ : Ok G own cc nL) (Ξ : OkX 0 G X) (hq : kTr q) (hL : cL σ q = some n) (hv : v = .ref (xad X q)) {owner : String} {x y : MethodName} {bytes : ByteArray} {maxL f lo index k : Nat} {ret : Option FieldType} {As : List Value} {rv : Option Value} (hM : MetZ 0 (gl G) X y bytes maxL ret f lo (.ref (xad X q) :: As) σ rv σ')
    (cw : n < 4 → va_CU (gR G) (gs G) (gar G) own (CT n) owner index x y bytes maxL ret (ws_ y bytes maxL ret) (rmF f lo) 0 0 k) (hkk : gk G ≤ (gR G).cells ∧ gn G ≤ (gR G).slots)
    (hn : As.length = k) (hst : st0 = As.reverse ++ v :: st) (hW : (st.map fun v => v.category).sum ≤ 8) (d : decode cc pc = .ok (.invokevirtual index, 3)) (kk : At G nL σ' lv (rv.toList ++ st) (pc + 3)) : At G nL σ lv st0 pc := by
  subst hv
  refine A_run Ξ (fun H locs ls hP hl => ?_) kk
  exact va_runU (rest := st) Γ hM (cw (tr_n4 hP hq hL)) ⟨PcZ_blind, tr_recv Ξ hP hq hL, PcZ_pre Ξ hP _⟩ rfl hn hl.1 hst (lv_room (rest := st0) (ls := ls) (pc := pc) (m := gm G) hW) d hkk
/-- super.m() on a trailer of kind n -/
theorem A_callSup (Γ : Ok G own cc nL) (Ξ : OkX 0 G X) (hq : kTr q) (hL : cL σ q = some n) {y : MethodName} {bytes : ByteArray} {maxL f lo index k : Nat} {ret : Option FieldType} {rv : Option Value} (hM : MetZ 0 (gl G) X y bytes maxL ret f lo [.ref (xad X q)] σ rv σ')
    (cw : va_CS (gR G) (gs G) (gar G) own index y bytes maxL ret (ws_ y bytes maxL ret) (rmF f lo) 0 0 0) (hkk : gk G ≤ (gR G).cells ∧ gn G ≤ (gR G).slots)
    (hW : (st.map fun v => v.category).sum ≤ 8) (d : decode cc pc = .ok (.invokespecial index, 3)) (kk : At G nL σ' lv (rv.toList ++ st) (pc + 3)) : At G nL σ lv (.ref (xad X q) :: st) pc := by
  refine A_run Ξ (fun H locs ls hP hl => ?_) kk
  exact va_runSU (As := []) (rest := st) (tr_class Ξ (tr_n4 hP hq hL)) Γ hM cw ⟨PcZ_blind, tr_recv Ξ hP hq hL, PcZ_pre Ξ hP _⟩ rfl rfl hl.1 rfl (lv_room (rest := .ref (xad X q) :: st) (ls := ls) (pc := pc) (m := gm G) hW) d hkk
/-- a private method of the outer object, called by a nest mate -/
theorem A_callN (Γ : Ok G own cc nL) (Ξ : OkX 0 G X) {y : MethodName} {bytes : ByteArray} {maxL f lo index k : Nat} {ret : Option FieldType} {As : List Value} {rv : Option Value} (hM : MetZ 0 (gl G) X y bytes maxL ret f lo (.ref (xo X) :: As) σ rv σ')
    (cw : va_CN (gR G) (gs G) (gar G) own index y RX0 bytes maxL ret (ws_ y bytes maxL ret) (rmF f lo) 0 0 k ∧ (Cond.instanceMethod y).before (gar G) (gs G) = true ∧ (Cond.selects RX0 y y).before (gar G) (gs G) = true) (hkk : gk G ≤ (gR G).cells ∧ gn G ≤ (gR G).slots)
    (hn : As.length = k) (hst : st0 = As.reverse ++ .ref (xo X) :: st) (hW : (st.map fun v => v.category).sum ≤ 8) (d : decode cc pc = .ok (.invokevirtual index, 3)) (kk : At G nL σ' lv (rv.toList ++ st) (pc + 3)) : At G nL σ lv st0 pc := by
  refine A_run Ξ (fun H locs ls hP hl => ?_) kk
  have hrecv : ∃ cellB : Cell, H[xo X]? = some cellB ∧ cellB.vm.isStatics = false ∧ (gs G).vm.findClass RX0 = some cellB.cls := by
    obtain ⟨⟨cell, q1, q2, q3, -⟩, -⟩ := hP
    exact ⟨cell, q1, by rw [q3]; rfl, by rw [q2]; exact (Ξ.1.1 0 _ rfl).2.1⟩
  exact va_runVN (rest := st) Γ hM cw ⟨PcZ_blind, hrecv, PcZ_pre Ξ hP _⟩ rfl hn hl.1 hst (lv_room (rest := st0) (ls := ls) (pc := pc) (m := gm G) hW) d hkk
/-- the interface's method -/
theorem A_callF (Γ : Ok G own cc nL) (Ξ : OkX 0 G X) (hq : kTr q) (hL : cL σ q = some n) (hv : v = .ref (xad X q)) {x y : MethodName} {bytes : ByteArray} {maxL f lo index count : Nat} {ret : Option FieldType} {rv : Option Value} (hM : MetZ 0 (gl G) X y bytes maxL ret f lo [.ref (xad X q)] σ rv σ')
    (cw : va_CI (gR G) (gs G) (gar G) own (CT n) index x y bytes maxL ret (ws_ y bytes maxL ret) (rmF f lo) 0 0 0) (hkk : gk G ≤ (gR G).cells ∧ gn G ≤ (gR G).slots)
    (hW : (st.map fun v => v.category).sum ≤ 8) (d : decode cc pc = .ok (.invokeinterface index count, 5)) (kk : At G nL σ' lv (rv.toList ++ st) (pc + 5)) : At G nL σ lv (v :: st) pc := by
  subst hv
  refine A_run5 Ξ (fun H locs ls hP hl => ?_) kk
  exact va_runF (As := []) (rest := st) (tr_class Ξ (tr_n4 hP hq hL)) Γ hM cw ⟨PcZ_blind, tr_recv Ξ hP hq hL, PcZ_pre Ξ hP _⟩ rfl rfl hl.1 rfl (lv_room (rest := .ref (xad X q) :: st) (ls := ls) (pc := pc) (m := gm G) hW) d hkk
/-- the interface's own default runs: its two instructions, in place (its interface is nowhere said to be initialised: no contract) -/
theorem A_callFD (Γ : Ok G own cc nL) (Ξ : OkX 0 G X) (hq : kTr q) (hL : cL σ q = some n) (hv : v = .ref (xad X q)) {x : MethodName} {bytes : ByteArray} {index count : Nat}
    (hcode : Cond.code x bytes 1 (some .boolean) ∈ lw_all) (hx0 : decode bytes 0 = .ok (.iconst 0, 1)) (hx1 : decode bytes 1 = .ok (.ireturn, 1)) (hpl : plainFor x = true) (hlink : Cond.methodLink own index x ∈ lw_all) (hinst : Cond.instanceMethod x ∈ lw_all) (hF : va_Fw (CT n) x x (gs G)) (hDd : va_Dd (CT n) x (gs G)) (hx : x.cls ≠ "java/lang/invoke/MethodHandle" ∧ x.cls ≠ "java/lang/invoke/VarHandle") (hlen : (parseMethodDescriptor x.desc).map (fun d => d.parameters.length) = some 0)
    (hR : 0 + 1 ≤ (gR G).frames ∧ 8 + (1 + 11) + 0 ≤ (gR G).locals) (hkk : gk G ≤ (gR G).cells ∧ gn G ≤ (gR G).slots)
    (hW : (st.map fun v => v.category).sum ≤ 8) (d : decode cc pc = .ok (.invokeinterface index count, 5)) (kk : At G nL σ lv (.int 0 :: st) (pc + 5)) : At G nL σ lv (v :: st) pc := by
  subst hv
  refine A_run5 (rv := some (.int 0)) Ξ (fun H locs ls hP hl => ?_) kk
  intro T hT X0
  have hts := Γ.2.2.2.2
  obtain ⟨cellB, hcell, hobj, hcls⟩ := tr_recv Ξ hP hq hL
  obtain ⟨hfc, kB, hkB, -⟩ := tr_class Ξ (tr_n4 hP hq hL)
  have hce : xC X (2 + n) = cellB.cls := Option.some.inj (hfc.symm.trans hcls)
  rw [hce] at hkB
  obtain ⟨r0, r, hn, hrm, hstR, hsigR⟩ := Cond.declares_spec (va_any (A' := gar G) rfl hF.1)
  obtain ⟨cL, kL, r1, hcL, hkL, hiL, hfoundL, hn1⟩ := Cond.interfaceMethod_spec (va_any (A' := gar G) rfl hF.2.1)
  cases hn.symm.trans hn1
  have hr0cls : r0.cls = cL := Option.some.inj ((findClass_of_methodNamed hn).symm.trans hcL)
  obtain ⟨hnameR, hdescR⟩ := name_of_methodNamed hn hrm
  obtain ⟨mk, methM, hnamed, hmethM, -, habM⟩ := Cond.instanceMethod_spec (hts _ hinst)
  cases hn.symm.trans hnamed
  obtain ⟨c2, r2, q1, q2, q4⟩ := hDd
  cases hcls.symm.trans q1
  cases hn.symm.trans q2
  have hselP : selectMethod (ge G).platform (gs G).vm cellB.cls r0 = .method r0 := by rw [Launch.admits_selectMethod X0.admits]; exact q4
  have hpubM : hasFlag methM.accessFlags Acc.public_ = true := Cond.publicMethod_spec hnamed hmethM (va_any (A' := gar G) rfl hF.2.2.1)
  have hway : ((cellB.cls :: (gs G).vm.superclasses cellB.cls).any fun k => (declaredIn (gs G).vm r.name r.desc k).any fun (_, z) => z.isPrivate || z.isStatic) = false := by
    rw [hnameR, hdescR]; exact Cond.unhidden_spec hcls (va_any (A' := gar G) rfl hF.2.2.2.1)
  obtain ⟨c3, t3, w1, w2, w3⟩ := Cond.castable_spec (va_any (A' := gar G) rfl hF.2.2.2.2)
  cases hcls.symm.trans w1
  cases hcL.symm.trans w2
  obtain ⟨vm₁, X₁, hstep₁⟩ := X0.invokeinterface Γ.1 Γ.2.2.2.1 (hts _ hlink) hn hrm hstR (by rw [hr0cls]; exact hkL) hiL hx (a := xad X q) (cell := cellB) (kcell := kB) (by rw [hT]; exact hcell)
    (fun z h => by rw [h] at hobj; cases hobj) (by exact hkB) (by rw [hr0cls]; exact w3) hselP hmethM hway hpubM habM (g := F0 (gm G) pc ls (.ref (xad X q) :: st)) rfl (argsL := []) (rest := st) (by
      have h2 := hlen
      rw [hsigR] at h2
      exact (Option.some.inj h2).symm) rfl (by rw [Γ.2.1]; exact d)
  obtain ⟨methk, ck, hmk, hck, hbk, hLk, hrk, hlk, -, -⟩ := Cond.code_spec hnamed (hts _ hcode)
  have hmk1 : (T.setVm vm₁).vm.method? r0 = some methk := by rw [X₁.warmed.alike.method?]; exact hmk
  have hnm1 : (T.setVm vm₁).methodNamed? x = some r0 := X₁.named hnamed
  obtain ⟨Y, hent⟩ := X₁.into (g := { F0 (gm G) pc ls (.ref (xad X q) :: st) with stack := st }) rfl (hl.1.trans Γ.2.2.1.symm) (by rw [Γ.2.1]; exact d) ([.ref (xad X q)] : List Value).toArray (R' := rmF 0 0) hmk1 hck hlk (State.plainMethod.of_named hpl hnm1 hmk1) hR.1 (by
      rw [hLk]
      have h1 := lv_room (rest := st) (ls := ls) (pc := pc) (m := gm G) hW
      have h2 := hR.2
      show 2 * (F0 (gm G) pc ls st).monitorRoom + (st.map fun v => v.category).sum + (1 + 11) + 0 ≤ _
      have h3 : 2 * (F0 (gm G) pc ls st).monitorRoom + (st.map fun v => v.category).sum ≤ 8 := h1
      omega) hkk.1 hkk.2
  have body : W (gp G) (gl G) (ge G) (rmF 0 0) ((T.setVm vm₁).calling { F0 (gm G) pc ls (.ref (xad X q) :: st) with stack := st } r0 ([.ref (xad X q)] : List Value).toArray) r0 ([.ref (xad X q)] : List Value).toArray (.java { F0 (gm G) pc ls (.ref (xad X q) :: st) with stack := st } :: gbe G) methk ck H [] 0 0 (MQ (.java { F0 (gm G) pc ls (.ref (xad X q) :: st) with stack := st } :: gbe G) (fun _ st oc t => oc = .returned (some (.int 0)) ∧ t.heap = H) ([.ref (xad X q)] : List Value).toArray ((T.setVm vm₁).calling { F0 (gm G) pc ls (.ref (xad X q) :: st) with stack := st } r0 ([.ref (xad X q)] : List Value).toArray) 0 0 (fun _ => False)) (entryFrame r0 ([.ref (xad X q)] : List Value).toArray ck.maxLocals) := by
    rw [hLk, lg_entry_eq]
    refine lv_iconst (v := 0) Γ.1 hbk hx0 (by decide) ?_
    exact W.zret Γ.1 hbk hrk rfl (fun t ht _ => ⟨rfl, ht⟩) (fun _ h => by cases h) hx1 hlk
  obtain ⟨t, hst2, o, hrun, hend, ⟨rfl, hheap⟩, L, ⟨-, hW2, hsame⟩, hLf⟩ := body _ (show (((T.setVm vm₁).setTop { F0 (gm G) pc ls (.ref (xad X q) :: st) with stack := st }).pushFrame (.java (entryFrame r0 ([.ref (xad X q)] : List Value).toArray ck.maxLocals))).heap = H from hT) Y
  obtain ⟨T', X', hw, hs, ht⟩ := X₁.outOf (g := { F0 (gm G) pc ls (.ref (xad X q) :: st) with stack := st }) rfl (by rw [Γ.2.1]; exact d) hend hW2 hsame
  have hh : T'.heap = H := by
    have e : t.heap = T'.heap := by rw [ht]; rfl
    rw [← e]; exact hheap
  refine ⟨some (.int 0), T, T', T', L, hT, X', fun w hw => (hLf w hw).elim, rfl, rfl, ⟨rfl, by rw [hh]; exact hP, by rw [hh, hT]; exact Nat.le_refl _, fun q _ _ => by rw [hh, hT]⟩, fun target h => hstep₁ _ fun acts => ?_⟩
  rw [hent acts]
  refine Steps.trans (Steps.weaken (mid := [.java { F0 (gm G) pc ls (.ref (xad X q) :: st) with stack := st }]) hst2) ?_
  rw [ht]
  exact h
/-- the outer object's private field, read by a nest mate -/
theorem A_getN (Γ : Ok G own cc nL) (Ξ : OkX 0 G X) {index k : Nat} {w : Value} (hk : k < 62) (hlink : Cond.fieldLinkNest own index RX0 (TX0 k).2.1 (TX0 k).2.2.1 RX0 ∈ xks) (h1 : (TX0 k).1 = RX0) (hv : fv 0 X σ k = w) (d : decode cc pc = .ok (.getfield index, 3)) (kk : At G nL σ lv (w :: st) (pc + 3)) : At G nL σ lv (.ref (xo X) :: st) pc := by
  intro H locs ls hS hP hl
  have hP0 := hP
  rw [Ξ.2.1] at hP
  obtain ⟨⟨cell, q1, q2, q3, q4⟩, -⟩ := hP
  obtain ⟨hSl, hfc, kC, hkC, hkind⟩ := Ξ.1.1 0 _ rfl
  obtain ⟨cf, kf, fi, f, hi, hsl⟩ := hSl k hk
  have hi' : (gs G).fieldFound? RX0 (TX0 k).2.1 (TX0 k).2.2.1 = some (cf, kf, fi, f) := by rw [← h1]; exact hi
  refine va_Wgetf Γ.1 Γ.2.1 Γ.2.2.2.1 (va_Nw.use (xks_on _ hlink) (Ξ.2.2.2.1 _ hlink)) hi' (u_facts hfc hkC (u_lays Γ.2.2.2.2 in_X0 hk) hi).1 q1 (by rw [q3]; exact fun h => by cases h) (v := w) ?_ rfl rfl d (kk H locs ls hS hP0 hl)
  rw [hsl]
  exact (q4 k hk).trans (by rw [hv])
theorem A_castY (Γ : Ok G own cc nL) (Ξ : OkX 0 G X) (hq : kTr q) (hL : cL σ q = some n) (hv : v = .ref (xad X q)) {nm : String} {index : Nat} (hlink : Cond.classLink own index nm ∈ lw_all) (hc : Cond.castable (CT n) nm ∈ xks ∨ CT n = nm) (d : decode cc pc = .ok (.checkcast index, 3)) (kk : At G nL σ lv (.ref (xad X q) :: st) (pc + 3)) : At G nL σ lv (v :: st) pc := by
  subst hv
  intro H locs ls hS hP hl
  have hP0 := hP
  rw [Ξ.2.1] at hP
  rcases hc with hc | hc
  · exact va_castY Γ.1 Γ.2.1 Γ.2.2.2.1 (Γ.2.2.2.2 _ hlink) (Ξ.2.2.2.1 _ hc) (tr_recv Ξ hP hq hL) d (kk H locs ls hS hP0 hl)
  · subst hc
    exact va_castS Γ.1 Γ.2.1 Γ.2.2.2.1 (Γ.2.2.2.2 _ hlink) (tr_class Ξ (tr_n4 hP hq hL)) (tr_recv Ξ hP hq hL) d (kk H locs ls hS hP0 hl)
theorem A_instY (Γ : Ok G own cc nL) (Ξ : OkX 0 G X) (hq : kTr q) (hL : cL σ q = some 3) (hv : v = .ref (xad X q)) {index : Nat} (hlink : Cond.classLink own index RX5 ∈ lw_all) (d : decode cc pc = .ok (.instanceof index, 3)) (kk : At G nL σ lv (.int 1 :: st) (pc + 3)) : At G nL σ lv (v :: st) pc := by
  subst hv
  intro H locs ls hS hP hl
  have hP0 := hP
  rw [Ξ.2.1] at hP
  exact va_instS Γ.1 Γ.2.1 Γ.2.2.2.1 (Γ.2.2.2.2 _ hlink) (tr_class (n := 3) Ξ (by decide)) (tr_recv Ξ hP hq hL) d (kk H locs ls hS hP0 hl)
theorem A_instN (Γ : Ok G own cc nL) (Ξ : OkX 0 G X) (hq : kTr q) (hL : cL σ q = some 1) (hv : v = .ref (xad X q)) {index : Nat} (hlink : Cond.classLink own index RX5 ∈ lw_all) (d : decode cc pc = .ok (.instanceof index, 3)) (kk : At G nL σ lv (.int 0 :: st) (pc + 3)) : At G nL σ lv (v :: st) pc := by
  subst hv
  intro H locs ls hS hP hl
  have hP0 := hP
  rw [Ξ.2.1] at hP
  exact va_instNo (C := RX3) Γ.1 Γ.2.1 Γ.2.2.2.1 (Γ.2.2.2.2 _ hlink) Ξ.2.2.2.2.2.1 (tr_recv Ξ hP hq hL) d (kk H locs ls hS hP0 hl)
/-- the kind is known where the picture stands -/
theorem A_n4 (Ξ : OkX 0 G X) (hq : kTr q) (hL : cL σ q = some n) (k : n < 4 → At G nL σ lv st pc) : At G nL σ lv st pc := fun H locs ls hS hP hl => k (tr_n4 (by rw [Ξ.2.1] at hP; exact hP) hq hL) H locs ls hS hP hl
end Trail
theorem lw_U {own : String} {idx : Nat} {C owner : String} {x y : MethodName} {b : ByteArray} {L : Nat} {r : Option FieldType} (h1 : Cond.methodLink own idx x ∈ lw_all) (h2 : Cond.sameMethod x.cls owner x.name x.desc ∈ lw_all) (h3 : Cond.selects C x y ∈ lw_all) (h4 : Cond.instanceMethod y ∈ lw_all) (h5 : Cond.initialized y.cls ∈ lw_all) (h6 : Cond.code y b L r ∈ lw_all) : GoodIn lw_all (va_wsU own idx C owner x y (ws_ y b L r)) := by
  refine lw_app ?_ (lw_meth h6)
  intro w hw
  simp only [List.mem_cons, List.not_mem_nil, or_false] at hw
  rcases hw with e | e | e | e | e <;> (rw [e]; assumption)
theorem lw_O {own : String} {idx : Nat} {C owner : String} {x y : MethodName} {b : ByteArray} {L : Nat} {r : Option FieldType} (h1 : Cond.methodLink own idx x ∈ lw_all) (h2 : Cond.sameMethod x.cls owner x.name x.desc ∈ lw_all) (h0 : Cond.instanceMethod ⟨owner, x.name, x.desc⟩ ∈ lw_all) (h3 : Cond.selects C x y ∈ lw_all) (h4 : Cond.instanceMethod y ∈ lw_all) (h5 : Cond.initialized y.cls ∈ lw_all) (h6 : Cond.code y b L r ∈ lw_all) : GoodIn lw_all (va_wsO own idx C owner x y (ws_ y b L r)) := by
  refine lw_app ?_ (lw_meth h6)
  intro w hw
  simp only [List.mem_cons, List.not_mem_nil, or_false] at hw
  rcases hw with e | e | e | e | e | e <;> (rw [e]; assumption)
theorem lw_SU {own : String} {idx : Nat} {y : MethodName} {b : ByteArray} {L : Nat} {r : Option FieldType} (h1 : Cond.methodLink own idx y ∈ lw_all) (h2 : Cond.sameMethod y.cls y.cls y.name y.desc ∈ lw_all) (h3 : Cond.superclass own y.cls ∈ lw_all) (h4 : Cond.instanceMethod y ∈ lw_all) (h5 : Cond.initialized y.cls ∈ lw_all) (h6 : Cond.code y b L r ∈ lw_all) : GoodIn lw_all (va_wsSU own idx y (ws_ y b L r)) := by
  refine lw_app ?_ (lw_meth h6)
  intro w hw
  simp only [List.mem_cons, List.not_mem_nil, or_false] at hw
  rcases hw with e | e | e | e | e <;> (rw [e]; assumption)
theorem lw_F {own : String} {idx : Nat} {C : String} {x y : MethodName} {b : ByteArray} {L : Nat} {r : Option FieldType} (h1 : Cond.methodLink own idx x ∈ lw_all) (h2 : Cond.selects C x y ∈ lw_all) (h3 : Cond.instanceMethod y ∈ lw_all) (h4 : Cond.initialized y.cls ∈ lw_all) (h5 : Cond.code y b L r ∈ lw_all) : GoodIn lw_all (va_wsF own idx C x y (ws_ y b L r)) := by
  refine lw_app ?_ (lw_meth h5)
  intro w hw
  simp only [List.mem_cons, List.not_mem_nil, or_false] at hw
  rcases hw with e | e | e | e <;> (rw [e]; assumption)
