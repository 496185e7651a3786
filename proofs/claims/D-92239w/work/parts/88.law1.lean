/-! the law: what its callees ask, carried through its run -/
theorem ls_mv {O f d : String} {A A' : Array Value} {s U : State} (hal : s.vm.Alike U.vm) (hH : ∀ q : Nat, q < s.heap.size → U.heap[q]? = s.heap[q]?) (h : (Cond.laysStatic O f d).before A s = true) : (Cond.laysStatic O f d).before A' U = true := by
  obtain ⟨c, k, i, fd, a, cell, hc, hf, hst, hsta, hcell, hiss, hcls, hlt, hty⟩ := Cond.laysStatic_spec h
  obtain ⟨k', hf', he⟩ := State.fieldFound?_setVm hal hf
  have hff : U.fieldFound? O f d = some (c, k', i, fd) := hf'
  have hc' : U.vm.findClass O = some c := by rw [hal.findClass]; exact hc
  have hst' : k'.statics = some a := by rw [he]; exact hsta
  have hty' : k'.staticTypes[fd.slot]? = some fd.type := by rw [he]; exact hty
  have hcell' : U.heap[a]? = some cell := by rw [hH a (Array.getElem?_eq_some_iff.mp hcell).1]; exact hcell
  simp [Cond.before, Cond.holds, Cond.value, hc', hff, hst, hst', hcell', hiss, hcls, hlt, hty']
theorem rs_mv {O f d : String} {A A' B : Array Value} {s U : State} (hal : s.vm.Alike U.vm) (hH : ∀ q : Nat, q < s.heap.size → U.heap[q]? = s.heap[q]?) (hl : (Cond.laysStatic O f d).before B s = true) (h : (Cond.isRef (.static O f d)).before A s = true) : (Cond.isRef (.static O f d)).before A' U = true := by
  obtain ⟨c, k, i, fd, a, cell, hc, hf, hst, hsta, hcell, hiss, hcls, hlt, hty⟩ := Cond.laysStatic_spec hl
  obtain ⟨k', hf', he⟩ := State.fieldFound?_setVm hal hf
  have hff : U.fieldFound? O f d = some (c, k', i, fd) := hf'
  have hst' : k'.statics = some a := by rw [he]; exact hsta
  have hcell' : U.heap[a]? = some cell := by rw [hH a (Array.getElem?_eq_some_iff.mp hcell).1]; exact hcell
  obtain ⟨u, hu⟩ := Cond.staticRefV hf hst hsta hcell hiss h
  obtain ⟨v, ok⟩ := u
  cases v <;> simp [Value.isRef] at ok <;> simp [Cond.before, Cond.holds, Cond.value, Term.eval, State.fieldNamed?, hff, hst, hst', hcell', hiss, hu]
def lsW : Cond → List Cond
  | .isRef (.static O f d) => [.laysStatic O f d]
  | _ => []
def okx : Cond → Bool
  | .declares _ => true
  | .castable _ _ => true
  | .isRef (.static _ _ _) => true
  | .laysStatic _ _ _ => true
  | w => goodWord w
theorem xtw_okx : xtw.all okx = true := by decide +kernel
theorem xtw_ls : ∀ w ∈ xtw.flatMap lsW, w ∈ xtw := by decide +kernel
theorem xw_mv {s U : State} (hW : s.WarmedH U.vm) (hH : ∀ q : Nat, q < s.heap.size → U.heap[q]? = s.heap[q]?) (h : ∀ w ∈ xtw, w.before #[] s = true) : ∀ w ∈ xtw, w.before #[] U = true := by
  intro w hw
  have h1 := h w hw
  have h2 := List.all_eq_true.mp xtw_okx w hw
  unfold okx at h2
  split at h2
  · exact va_Nw.warmD hW h1
  · exact va_Nw.warmC hW h1
  · rename_i O f d
    exact rs_mv hW.alike hH (h _ (xtw_ls _ (List.mem_flatMap.mpr ⟨_, hw, List.mem_cons_self ..⟩))) h1
  · exact ls_mv hW.alike hH h1
  · exact word_at hW (good_of_word h2) h1
theorem xw_same {s U : State} (hv : s.vm = U.vm) (hH : s.heap = U.heap) (h : ∀ w ∈ xtw, w.before #[] s = true) : ∀ w ∈ xtw, w.before #[] U = true := by
  intro w hw
  have h1 := h w hw
  have h2 := List.all_eq_true.mp xtw_okx w hw
  have hal : s.vm.Alike U.vm := by rw [hv]; exact Vm.Alike.refl _
  unfold okx at h2
  split at h2
  · exact va_tabs rfl hv h1
  · exact va_tabs rfl hv h1
  · rename_i O f d
    exact rs_mv hal (fun q _ => by rw [hH]) (h _ (xtw_ls _ (List.mem_flatMap.mpr ⟨_, hw, List.mem_cons_self ..⟩))) h1
  · exact ls_mv hal (fun q _ => by rw [hH]) h1
  · rcases good_of_word h2 with g | ⟨ty, rfl⟩
    · rw [Bool.and_eq_true] at g
      exact va_tabs g.1 hv h1
    · exact word_at (s := s) (by rw [← hv]; exact State.WarmedH.refl _) (Or.inr ⟨ty, rfl⟩) h1
/-- what the law holds of the tables, for the class' methods that throw or make -/
def XL (X : Xw) (s : State) : Prop := (∀ w ∈ xtw, w.before #[] s = true) ∧ (∀ q ∈ xtn, va_Nc q.1 q.2 s) ∧ (∃ k : Class, s.vm.classes[xA X 4]? = some k ∧ k.kind = .array (xA X 0) (.array .int)) ∧ (∃ k : Class, s.vm.classes[xA X 5]? = some k ∧ k.kind = .array (xA X 2) (.array .byte)) ∧ modulesRight_1 s = true
theorem kind_mv {s U : State} (hal : s.vm.Alike U.vm) {c : ClassId} {P : Class → Prop} (hP : ∀ k k' : Class, k'.kind = k.kind → P k → P k') (h : ∃ k : Class, s.vm.classes[c]? = some k ∧ P k) : ∃ k : Class, U.vm.classes[c]? = some k ∧ P k := by
  obtain ⟨k, h1, h2⟩ := h
  obtain ⟨k', h3, he⟩ := hal.2.2 _ _ h1
  exact ⟨k', h3, hP k k' (by rw [he]) h2⟩
theorem XL.xt {X : Xw} {s U : State} (h : XL X s) (hW : s.WarmedH U.vm) (hH : ∀ q : Nat, q < s.heap.size → U.heap[q]? = s.heap[q]?) (hst : ∀ (q : Nat) (cell : Cell), U.heap[q]? = some cell → cell.vm.isStatics = true → ¬ xR X q) (hn : ∀ q : Nat, U.heap.size ≤ q → xR X q) : XT X U := by
  obtain ⟨h1, h2, h3, h4, h5⟩ := h
  refine ⟨xw_mv hW hH h1, hst, fun q hq => va_Nc.moved hW.alike (h2 q hq), hn, kind_mv hW.alike (fun k k' e h => by rw [e]; exact h) h3, kind_mv hW.alike (fun k k' e h => by rw [e]; exact h) h4, ?_⟩
  have e : U.vm.modules = s.vm.modules := by rw [hW.alike.1]
  unfold modulesRight_1 at h5 ⊢
  rw [e]
  exact h5
theorem XT.blind {X : Xw} {U : State} (h : XT X U) (g : JFrame) (mk : MethodId) (a : Array Value) : XT X (U.calling g mk a) := by
  obtain ⟨h1, h2, h3, h4, h5, h6, h7⟩ := h
  exact ⟨xw_same (s := U) (U := U.calling g mk a) rfl rfl h1, h2, fun q hq => va_Nc.moved (u := U) (U := U.calling g mk a) (Vm.Alike.refl U.vm) (h3 q hq), h4, h5, h6, h7⟩
/-! a call of a method with handlers -/
section VW
variable {p : Program} {l : Launch} {e : Env} {R : Room} {s : State} {m : MethodId} {args : Array Value} {below : List Frame} {meth : Method} {c : Code} {H : Heap} {locs : List Loc} {cells slots : Nat}
theorem vr_runVW {y : MethodName} {bytes cc : ByteArray} {maxL nL mc ms n index : Nat} {ret : Option FieldType} {hh : List (Nat × Nat × Nat × Nat)} {ws : List Cond} {rm : Room} {Pc : Array Value → State → Prop} {Qc : Array Value → State → Outcome → State → Prop} {free : Addr → Prop} {own C : String} {b : Addr} {As rest : List Value} {g : JFrame}
    (S : CallFix p m c cc nL s args lw_all own) (hM : Met l y ws rm Pc Qc mc ms free) (hT : GoodIn lw_all (wsV own index C y ws)) (hcw : Cond.codeWith y bytes maxL ret hh ∈ ws) (hrc : rm.cells = mc) (hrs : rm.slots = ms)
    (hd : y.cls = C ∧ y.cls ≠ "java/lang/invoke/MethodHandle" ∧ y.cls ≠ "java/lang/invoke/VarHandle" ∧ (parseMethodDescriptor y.desc).map (fun d => d.parameters.length) = some n) (hR : rm.frames + 1 ≤ R.frames ∧ 8 + (maxL + 11) + rm.locals ≤ R.locals) (hp : PreV s H C b Pc As)
    (hg : g.method = m) (hn : As.length = n) (hsize : g.locals.size = nL) (hstack : g.stack = As.reverse ++ .ref b :: rest) (hW : 2 * g.monitorRoom + (rest.map fun v => v.category).sum ≤ 8) (hdg : decode cc g.pc = .ok (.invokevirtual index, 3)) (hf : cells + mc ≤ R.cells ∧ slots + ms ≤ R.slots) :
    va_Run p l e R s m args below meth c H locs cells slots mc ms g rest (Qc (Value.ref b :: As).toArray) (free) := by
  obtain ⟨hC, hy1, hy2, hlen⟩ := hd
  subst hC
  obtain ⟨hx, hb, hml, ho, ht⟩ := S
  have ok : ∀ w ∈ wsV own index y.cls y ws, w.before args s = true := fun w h => ht w (hT w h).1
  have hini : (Cond.initialized y.cls).before args s = true := ok _ (by simp [wsV])
  have hlink : (Cond.methodLink own index y).before args s = true := ok _ (by simp [wsV])
  have hinst : (Cond.instanceMethod y).before args s = true := ok _ (by simp [wsV])
  have hsel : (Cond.selects y.cls y y).before args s = true := ok _ (by simp [wsV])
  have hcode : (Cond.codeWith y bytes maxL ret hh).before args s = true := ok _ (by unfold wsV; exact List.mem_append_right _ hcw)
  have hws : ∀ w ∈ ws, ∀ (a' : Array Value) (U : State), s.WarmedH U.vm → w.before a' U = true := fun w h a' U hU => word_at hU (hT w (by unfold wsV; exact List.mem_append_right _ h)).2 (ok w (by unfold wsV; exact List.mem_append_right _ h))
  have hK : Back l R p e below s args y 3 8 (PreOf R mc ms Pc) (PostOf Qc mc ms free) := va_backW (hh := hh) (bytes := bytes) (maxL := maxL) (ret := ret) hM hp.1 hrc hrs hR.1 hR.2 hws hcw (fun a' U hW => word_at hW (Or.inl (by first | rfl | simp [Cond.onTables, Cond.keeps, Cond.steady])) hini)
  obtain ⟨-, ⟨cellB, hcB, hoB, hclB⟩, hPc⟩ := hp
  intro T hT2 X
  obtain ⟨mk, methM, hnamed, hmethM, hstM, habM⟩ := Cond.instanceMethod_spec hinst
  obtain ⟨m9, methM', cM, hn9, hmethM', -, -, -, -, -, -, hsigM⟩ := Cond.codeWith_spec hcode
  cases hnamed.symm.trans hn9
  cases hmethM.symm.trans hmethM'
  obtain ⟨c2, r2, m2, q1, q2, q3, q4, kP, hkP, hkPi⟩ := Cond.selects_spec hsel
  cases hclB.symm.trans q1
  cases (State.methodFound?_of_named hnamed ⟨hy1, hy2⟩).symm.trans q2
  cases hnamed.symm.trans q3
  have hselP : selectMethod e.platform s.vm cellB.cls mk = .method mk := by rw [Launch.admits_selectMethod X.admits]; exact q4
  have hlenA : As.length = methM.sig.parameters.length := by
    rw [hsigM] at hlen
    exact hn.trans (Option.some.inj hlen).symm
  obtain ⟨vm₁, X₁, hstep₁⟩ := X.invokevirtual hx ho hlink hnamed hmethM hstM hkP hkPi ⟨hy1, hy2⟩ (a := b) (cell := cellB) (by rw [hT2]; exact hcB)
    (fun z h => by rw [h] at hoB; cases hoB) hselP hmethM habM hkP hkPi (g := g) hg (argsL := As) (rest := rest) hlenA hstack (by rw [hb]; exact hdg)
  obtain ⟨v, ⟨U', l2, c2, s2⟩, X', ⟨g', mk', t, L, e1, e2, hq, h1, hL, h2, h3⟩, hsteps⟩ := hK m meth c ⟨T.setVm vm₁, locs, cells, slots⟩ { g with stack := rest } (.invokevirtual index) mk (Value.ref b :: As).toArray X₁ hg (hsize.trans hml.symm) (by rw [hb]; exact hdg) hW (X₁.named hnamed) ⟨hf.1, hf.2, hPc (T.setVm vm₁) hT2 X₁.warmed⟩
  dsimp only [Pt.U, Pt.locs, Pt.cells, Pt.slots] at X' e1 e2 h1 h2 h3 hsteps
  subst h1; subst h2; subst h3
  exact ⟨v, (T.setVm vm₁).calling g' mk' (Value.ref b :: As).toArray, t, U', L, hT2, X', hL, e1, e2, hq, fun target h => hstep₁ _ fun acts => by rw [doInvoke_state]; exact hsteps.trans h⟩
end VW
