/-! the handlers' search, and the rules of the judgement -/
section Exc2
variable {p : Program} {l : Launch} {e : Env} {R : Room} {s : State} {m : MethodId} {args : Array Value} {below : List Frame} {meth : Method} {c : Code} {T : State} {locs : List Loc} {cells slots : Nat}
abbrev xc_row (h : ExceptionTableEntry) : Nat × Nat × Nat × Nat := (h.startPc, h.endPc, h.handlerPc, h.catchType)
/-- one look at a row of the table: the class of its catch type is resolved -/
theorem xc_look (X : Stand p l e R s m args below meth c T locs cells slots) {own nm : String} {t : Nat} (hown : s.vm.findClass own = some m.cls) (hlink : (Cond.classLink own t nm).before args s = true) {a : Addr} {ce : Cell} (hcell : T.heap[a]? = some ce) (hvm : ce.vm = .none) {kX : Class} (hkX : s.vm.classes[ce.cls]? = some kX)
    {g : JFrame} (hg : g.method = m) {x : ExceptionTableEntry} (hx : covers x g.pc = true) (hxt : x.catchType = t) (h0 : t ≠ 0) :
    ∃ (vm' : Vm) (ct : ClassId), s.vm.findClass nm = some ct ∧ Stand p l e R s m args below meth c (T.setVm vm') locs cells slots ∧
      ∀ (rest : List ExceptionTableEntry) (Q : Handler → Pre) (E : CtlPost) (d : Bool) (acts : List Action), wp (findHandler.go g a (x :: rest)) Q E e d acts ((T.setTop g).pushFrame (.throwing a)) ↔
        if s.vm.assignable ce.cls ct = true then Q (.found x.handlerPc) d acts (((T.setVm vm').setTop g).pushFrame (.throwing a)) else wp (findHandler.go g a rest) Q E e d acts (((T.setVm vm').setTop g).pushFrame (.throwing a)) := by
  have hpl : e.platform.magicAccessors = ({} : Platform).magicAccessors := by rw [X.admits.platform]
  obtain ⟨ct, hct, hcl⟩ := Cond.classLink_spec hown hlink e.platform hpl
  obtain ⟨dk, _, _, kt, hd, _, _, _, _, hkt, _, hopen⟩ := hcl.here
  have hcl₀ := X.warmed.classLinks hcl
  have hW' : s.WarmedH (T.vm.noted m.cls t (.cls ct)) := X.warmed.noted hd hopen (State.rightAt_cls hcl)
  obtain ⟨ks', hks', -⟩ := hW'.alike.2.2 _ _ hkX
  obtain ⟨kt', hkt', -⟩ := hW'.alike.2.2 _ _ hkt
  refine ⟨_, ct, hct, X.noted hW', fun rest Q E d acts => ?_⟩
  subst hg
  subst hxt
  have e1 : ((T.setTop g).pushFrame (.throwing a)).vm = T.vm := Stand.throwing_vm T g a
  have e2 : ((T.setTop g).pushFrame (.throwing a)).heap = T.heap := Stand.throwing_heap T g a
  have h := xc_go (s := (T.setTop g).pushFrame (.throwing a)) (f := g) (a := a) (Q := Q) (E := E) (d := d) (acts := acts) (t := rest) (x := x) (c := ct) (cell := ce) (vm' := T.vm.noted g.method.cls x.catchType (.cls ct)) hx h0 (by rw [e1]; exact resolveClass_links e.toSetting hcl₀) (by rw [e1]; no_record) (by rw [e2]; exact hcell) (by rw [hvm]; exact fun k q => by cases q) ⟨ks', hks'⟩ ⟨kt', hkt'⟩
  rw [hW'.alike.assignable] at h
  exact h
theorem xc_rows1 {t : List ExceptionTableEntry} {r : Nat × Nat × Nat × Nat} (h : t.map xc_row = [r]) : ∃ x, t = [x] ∧ xc_row x = r := by
  cases t with
  | nil => cases h
  | cons x t =>
    cases t with
    | nil => exact ⟨x, rfl, by simpa using h⟩
    | cons y t => simp at h
theorem xc_rows2 {t : List ExceptionTableEntry} {r q : Nat × Nat × Nat × Nat} (h : t.map xc_row = [r, q]) : ∃ x y, t = [x, y] ∧ xc_row x = r ∧ xc_row y = q := by
  cases t with
  | nil => cases h
  | cons x t =>
    cases t with
    | nil => simp at h
    | cons y t =>
      cases t with
      | nil => exact ⟨x, y, rfl, by simpa using h⟩
      | cons z t => simp at h
/-- where a thrown object of class cls is caught, the method's table being rows -/
def XcAt (args : Array Value) (s : State) (own : String) (pc : Nat) (cls : String) : List (Nat × Nat × Nat × Nat) → Nat → Prop
  | [], _ => False
  | (a, b, h, t) :: r, hp => (a ≤ pc ∧ pc < b ∧ t ≠ 0 ∧ ∃ nm : String, (Cond.classLink own t nm).before args s = true ∧ (((Cond.castable cls nm).before #[] s = true ∧ h = hp) ∨ (va_Nc cls nm s ∧ XcAt args s own pc cls r hp))) ∨ (¬ (a ≤ pc ∧ pc < b) ∧ XcAt args s own pc cls r hp)
theorem xc_find {own cls : String} {pc hp : Nat} (hown : s.vm.findClass own = some m.cls) {a : Addr} {ce : Cell} (hvm : ce.vm = .none) (hcls : s.vm.findClass cls = some ce.cls) {g : JFrame} (hg : g.method = m) (hpc : g.pc = pc) :
    ∀ (rows : List (Nat × Nat × Nat × Nat)), XcAt args s own pc cls rows hp → ∀ (t : List ExceptionTableEntry), t.map xc_row = rows → ∀ (T : State), Stand p l e R s m args below meth c T locs cells slots → T.heap[a]? = some ce →
    ∃ vm' : Vm, Stand p l e R s m args below meth c (T.setVm vm') locs cells slots ∧ ∀ (Q : Handler → Pre) (E : CtlPost) (d : Bool) (acts : List Action), wp (findHandler.go g a t) Q E e d acts ((T.setTop g).pushFrame (.throwing a)) ↔ Q (.found hp) d acts (((T.setVm vm').setTop g).pushFrame (.throwing a)) := by
  obtain ⟨kX, hkX⟩ := Vm.classAt_of_findClass hcls
  intro rows
  induction rows with
  | nil => intro k; exact k.elim
  | cons r rows ih =>
    obtain ⟨a1, b1, h, t⟩ := r
    intro k tt htt T X hcell
    cases tt with
    | nil => cases htt
    | cons x tt =>
      simp only [List.map_cons, List.cons.injEq, Prod.mk.injEq] at htt
      obtain ⟨⟨r1, r2, r3, r4⟩, htt⟩ := htt
      rcases k with ⟨h1, h2, h0, nm, hl, k⟩ | ⟨h1, k⟩
      · obtain ⟨vm', ct, hct, X', hgo⟩ := xc_look X hown hl hcell hvm hkX hg (x := x) (by simp [covers, r1, r2, hpc, h1, h2]) r4 h0
        rcases k with ⟨hc, rfl⟩ | ⟨hc, k⟩
        · obtain ⟨c1, c2, w1, w2, w3⟩ := Cond.castable_spec hc
          cases hcls.symm.trans w1
          cases hct.symm.trans w2
          refine ⟨vm', X', fun Q E d acts => ?_⟩
          rw [hgo, if_pos w3, r3]
        · obtain ⟨vm2, X2, hgo2⟩ := ih k tt htt (T.setVm vm') X' hcell
          refine ⟨vm2, X2, fun Q E d acts => ?_⟩
          have hno : ¬ s.vm.assignable ce.cls ct = true := by
            obtain ⟨c1, c2, w1, w2, w3⟩ := hc
            cases hcls.symm.trans w1
            cases hct.symm.trans w2
            rw [w3]
            decide
          rw [hgo, if_neg hno, hgo2]
          exact Iff.rfl
      · obtain ⟨vm2, X2, hgo2⟩ := ih k tt htt T X hcell
        refine ⟨vm2, X2, fun Q E d acts => ?_⟩
        rw [W.findHandler_go_skip (by simp only [covers, r1, r2, hpc]; simp; omega), hgo2]
/-- from the note to the handler -/
theorem xc_to (X : Stand p l e R s m args below meth c T locs cells slots) {own cls : String} {pc hp : Nat} {rows : List (Nat × Nat × Nat × Nat)} (hown : s.vm.findClass own = some m.cls) (hrows : c.exceptionTable.toList.map xc_row = rows) (k : XcAt args s own pc cls rows hp) {a : Addr} {ce : Cell} (hcell : T.heap[a]? = some ce) (hvm : ce.vm = .none) (hcls : s.vm.findClass cls = some ce.cls) {g : JFrame} (hg : g.method = m) (hpc : g.pc = pc) :
    ∃ vm' : Vm, Stand p l e R s m args below meth c (T.setVm vm') locs cells slots ∧ ∀ target, Steps p.tables e below ((T.setVm vm').setTop { g with pc := hp, stack := [.ref a] }) target → Steps p.tables e below ((T.setTop g).pushFrame (.throwing a)) target := by
  obtain ⟨vm', X', hgo⟩ := xc_find hown hvm hcls hg hpc rows k _ hrows T X hcell
  refine ⟨vm', X', fun target hrest => ?_⟩
  refine xc_caught (vm' := vm') (c := c) (by rw [hg]; exact X.here) (fun Q E d acts => ?_) hrest
  rw [W.findHandler_eq (meth := meth) (code := c) (by rw [Stand.throwing_vm, hg]; exact X.method') X.code, hgo]
  exact Iff.rfl
end Exc2
