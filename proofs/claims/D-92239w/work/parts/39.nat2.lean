/-! what a native throws: the exception is made over the native's frame -/
section Nat2
variable {below base : List Frame} {W : State} {self : Addr}
theorem nt_plainS (p : Program) {e : Env} {s₀ : State} (hO : Ov W base below) (hexec : p.tables.exec = Jvm.exec)
    (T : ThrowableC) (L : T.Links e.platform s₀) (Z : Init0T) (LZ : Z.LaidS T.toThrowableT) (M : MsgC) (LM : M.Links T e.platform s₀) (hW : s₀.WarmedH W.vm) {t : ThreadId} (ht : W.cur = t)
    {u0 sen : RefV} {str : Addr} {cell cellS : Cell}
    (hcell : W.heap[self]? = some cell) (hobj : ∀ k, cell.vm ≠ .statics k) (hknown : cell.vm ≠ .unknown) (hfree : cell.monitor.owner = none)
    (hsel0 : selectMethod e.platform s₀.vm cell.cls T.fill0 = .method T.fill0)
    (hcellS : W.heap[T.aS]? = some cellS) (hneS : T.aS ≠ self) (hknownS : cellS.vm ≠ .unknown) (hvU : cellS.slots[T.fUnassigned.slot]? = some u0.v)
    (htS : Takes s₀ cell T.fStack u0.v)
    (hskip : SkipFacts T e.platform s₀ (fun u => u) u0 ((preparedCellV T.toThrowableT cell self u0 sen).withEntry t)) (htr : e.platform.stackTraces = false)
    (hselF : selectMethod e.platform s₀.vm cell.cls T.fill = .method T.fill) (hvSen : cellS.slots[T.fSentinel.slot]? = some sen.v)
    (htC : Takes s₀ cell T.fCause (.ref self)) (htP : Takes s₀ cell T.fSupp sen.v) (htM : Takes s₀ cell T.fMsg (.ref str)) (hobjLocals : T.codeObj.maxLocals = 1)
    (P1 : PassC) (L1 : P1.LinksS e.platform s₀) (Ps : List PassC) (hL : ∀ P, P ∈ Ps → P.LinksS e.platform s₀) (hlink1 : P1.sup = firstOf (Z.m T.toThrowableT) (Ps.map (·.toPassT))) (hlink : PassesOn (Z.m T.toThrowableT) (Ps.map (·.toPassT)))
    {lim : Nat × Nat} (hlim : e.platform.stackLimits W.me = lim) (hframes : base.length + Ps.length + 4 < lim.1) (hwords : (stackUse base).2 + 13 * Ps.length + 55 ≤ lim.2) :
    ∃ vm', s₀.WarmedH vm' ∧ ∀ target, Steps p.tables e below (((W.setVm vm').setCell self ((((preparedCellV T.toThrowableT cell self u0 sen).withEntry t).setSlot T.fStack.slot u0.v).left.setSlot T.fMsg.slot (.ref str))).setFrames (.throwing self :: base)) target →
      Steps p.tables e below (doInvoke e (W.setFrames (.thenThrow self :: base)) [] P1.m #[.ref self, .ref str]).1 target := by
  obtain ⟨hfN, -, -⟩ := nt_inside hO self (passJ P1.m self (.ref str) 0 []) (hW.methodAt L1.method) L1.code (hW.plainAt L1.plain)
  have hlimN : e.platform.stackLimits (W.setFrames (.thenThrow self :: base)).me = lim := by rw [State.stackLimits_setFrames]; exact hlim
  have hroom := Jvm.roomAbove (pl := e.platform) (u := W.setFrames (.thenThrow self :: base)) (vars := 2) (pushed := [.thenThrow self]) (base := base) (free := 13 * Ps.length + 55) (lim := lim) hfN hlimN
    (by simp only [List.length_cons, List.length_nil]; omega) (by omega) (by rw [stackUse_light _ _ (fun f hf => by cases hf) rfl, stackUse_nil]; show 0 + 2 + 11 ≤ _; omega)
  refine nt_ctorS hO hexec (H := fun u => u.setCell self ((((preparedCellV T.toThrowableT cell self u0 sen).withEntry t).setSlot T.fStack.slot u0.v).left.setSlot T.fMsg.slot (.ref str))) (heapOnly_id.thenSetCell self _) P1 L1 hW self str hroom (fun vm1 hW1 hI1 => ?_)
  rw [hlink1]
  obtain ⟨-, -, hfI⟩ := nt_inside (hO.vm vm1) self (passJ P1.m self (.ref str) 0 []) (hW1.methodAt L1.method) L1.code (hW1.plainAt (U := W.setVm vm1) L1.plain)
  have hXvm : ∀ w, (((W.setVm vm1).setFrames (.thenThrow self :: base)).pushFrame (.java (passJ P1.m self (.ref str) 0 []))).setVm w = (((W.setVm w).setFrames (.thenThrow self :: base)).pushFrame (.java (passJ P1.m self (.ref str) 0 []))) := fun w => by rw [State.pushFrame_setVm, State.setFrames_setVm, State.setVm_twice]
  have hXc : (((W.setVm vm1).setFrames (.thenThrow self :: base)).pushFrame (.java (passJ P1.m self (.ref str) 0 []))).heap[self]? = some cell := hcell
  have hXS : (((W.setVm vm1).setFrames (.thenThrow self :: base)).pushFrame (.java (passJ P1.m self (.ref str) 0 []))).heap[T.aS]? = some cellS := hcellS
  have hXcur : (((W.setVm vm1).setFrames (.thenThrow self :: base)).pushFrame (.java (passJ P1.m self (.ref str) 0 []))).cur = t := ht
  have hXW : s₀.WarmedH (((W.setVm vm1).setFrames (.thenThrow self :: base)).pushFrame (.java (passJ P1.m self (.ref str) 0 []))).vm := hW1
  have hXlim : e.platform.stackLimits (((W.setVm vm1).setFrames (.thenThrow self :: base)).pushFrame (.java (passJ P1.m self (.ref str) 0 []))).me = lim := by rw [State.stackLimits_pushFrame, State.stackLimits_setFrames]; exact hlim
  suffices hs : ∃ vm2, s₀.WarmedH vm2 ∧ ∀ t' : State, Steps p.tables e below ((((((W.setVm vm1).setFrames (.thenThrow self :: base)).pushFrame (.java (passJ P1.m self (.ref str) 0 []))).setVm vm2).setCell self ((((preparedCellV T.toThrowableT cell self u0 sen).withEntry t).setSlot T.fStack.slot u0.v).left.setSlot T.fMsg.slot (.ref str))).setTop (passJ P1.m self (.ref str) 5 [])) t' →
      Steps p.tables e below (doInvoke e ((((W.setVm vm1).setFrames (.thenThrow self :: base)).pushFrame (.java (passJ P1.m self (.ref str) 0 []))).setTop (passJ P1.m self (.ref str) 2 [])) [] (firstOf (Z.m T.toThrowableT) (Ps.map (·.toPassT))) #[.ref self, .ref str]).1 t' by
    obtain ⟨vm2, hW2, st⟩ := hs
    exact ⟨vm2, hW2, fun t' h' => st t' (by rw [hXvm]; exact h')⟩
  clear hXvm
  generalize (((W.setVm vm1).setFrames (.thenThrow self :: base)).pushFrame (.java (passJ P1.m self (.ref str) 0 []))) = X at hI1 hfI hXc hXS hXcur hXW hXlim ⊢
  exact Steps.initThrowableSColdByV p (V := X) (g := passJ P1.m self (.ref str) 2 []) (c := P1.code) (self := self) hI1 hexec T L Z LZ M LM hXW hXcur (Nn := fun u => u) heapOnly_id (fun _ _ => rfl) (fun _ => rfl) (fun u x y => setCell_twice _ _ _ _) (fun _ => Nat.le_refl _) (msg := .ref str) rfl hXc hobj hknown hfree hsel0 hXS hneS hknownS hvU htS
    (fun _ hu => hu) (fun _ hu => hu) rfl rfl rfl (by simp [preparedCellV, Cell.setSlot, Cell.withEntry]) hskip (fun _ _ hA hW _ hroom _ hrest => L.nativeOff p htr hA hW hroom hrest) hselF hvSen htC htP htM hobjLocals Ps hL hlink (ig := .invokespecial P1.index) (len := 3) [] hXlim
    (by rw [hfI]; simp only [List.length_cons]; omega)
    (by rw [hfI, List.tail_cons, stackUse_java, stackUse_light _ _ (fun f hf => by cases hf) rfl]
        show (stackUse base).2 + (2 + 11 + 2 * 0 + operandWords []) + 13 * Ps.length + 42 ≤ lim.2
        simp only [operandWords, List.foldl_nil]
        omega)
    L1.at2
end Nat2
