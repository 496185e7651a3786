/-! a cast that falls: its text -/
theorem tx_len {t : String} (h1 : t.toList.length ≤ 400) (h2 : ∃ r, t.toList = 'c' :: r) : txOk t := by
  refine ⟨?_, ?_⟩
  · rw [beq_eq_false_iff_ne]
    intro h
    obtain ⟨r, hr⟩ := h2
    rw [h] at hr
    have h4 : notModelled.toList = '\u0000' :: " a message that is not modelled".toList := by decide
    rw [h4] at hr
    simp at hr
  · have b1 := stringBytes_size_le (stringToUtf16 t)
    have b2 := utf16_size_le t
    omega
/-- a class of the boot loader's, in the package without a name, or in java.lang -/
def plainK (k : Class) : Prop := k.hidden = none ∧ k.loader = none ∧ (dotted k.name).toList.length ≤ 40 ∧ packageOf k.name = ""
theorem home_len {vm : Vm} (hm : (vm.modules.all fun m => m.loader.isSome || m.name == "java.base" || !(castPackages_1.any fun p => m.packages.contains p)) = true) {k : Class} (hk : plainK k) : (vm.home k).toList.length ≤ 50 := by
  obtain ⟨h1, h2, h3, h4⟩ := hk
  have hl : vm.loaderName k.loader = "'bootstrap'" := by rw [h2]; rfl
  have hmod : ∀ x, vm.moduleOf k = some x → x.name = "java.base" := by
    intro x hx
    unfold Vm.moduleOf at hx
    split at hx
    · have := List.find?_some hx
      simpa using this
    · have hp := List.find?_some hx
      have hmem := List.mem_of_find?_eq_some hx
      have ha := List.all_eq_true.mp hm x hmem
      rw [h2, h4] at hp
      simp only [Bool.and_eq_true] at hp
      simp only [Bool.or_eq_true] at ha
      rcases ha with (ha | ha) | ha
      · have hx1 : x.loader = none := by simpa using hp.1
        rw [hx1] at ha; cases ha
      · simpa using ha
      · have : (castPackages_1.any fun p => x.packages.contains p) = true := by
          unfold castPackages_1
          simp only [List.any_cons, Bool.or_eq_true]
          exact Or.inl hp.2
        rw [this] at ha; cases ha
  unfold Vm.home
  rw [hl]
  cases hx : vm.moduleOf k with
  | none => decide
  | some x =>
    show ("module " ++ x.name ++ " of loader " ++ "'bootstrap'").toList.length ≤ 50
    rw [hmod x hx]; decide
theorem cast_tx {vm : Vm} (hm : (vm.modules.all fun m => m.loader.isSome || m.name == "java.base" || !(castPackages_1.any fun p => m.packages.contains p)) = true) {ks kt : Class} (hs : plainK ks) (ht : plainK kt) : txOk (checkcast.message vm ks kt) := by
  have a1 : ks.shown = dotted ks.name := by unfold Class.shown; rw [hs.1]
  have a2 : kt.shown = dotted kt.name := by unfold Class.shown; rw [ht.1]
  have b1 : (vm.homes ks kt).toList.length ≤ 200 := by
    have c1 := home_len hm hs
    have c2 := home_len hm ht
    unfold Vm.homes
    have d1 := hs.2.2.1
    have d2 := ht.2.2.1
    split
    · rw [a1, a2]
      show (toString (dotted ks.name) ++ toString " and " ++ toString (dotted kt.name) ++ toString " are in " ++ toString (vm.home ks)).toList.length ≤ 200
      simp only [String.toList_append, List.length_append]
      have e1 : (toString " and ").toList.length = 5 := by decide
      have e2 : (toString " are in ").toList.length = 8 := by decide
      have e3 : (toString (dotted ks.name)).toList.length ≤ 40 := d1
      have e4 : (toString (dotted kt.name)).toList.length ≤ 40 := d2
      have e5 : (toString (vm.home ks)).toList.length ≤ 50 := c1
      omega
    · rw [a1, a2]
      show (toString (dotted ks.name) ++ toString " is in " ++ toString (vm.home ks) ++ toString "; " ++ toString (dotted kt.name) ++ toString " is in " ++ toString (vm.home kt)).toList.length ≤ 200
      simp only [String.toList_append, List.length_append]
      have e1 : (toString " is in ").toList.length = 7 := by decide
      have e2 : (toString "; ").toList.length = 2 := by decide
      have e3 : (toString (dotted ks.name)).toList.length ≤ 40 := d1
      have e4 : (toString (dotted kt.name)).toList.length ≤ 40 := d2
      have e5 : (toString (vm.home ks)).toList.length ≤ 50 := c1
      have e6 : (toString (vm.home kt)).toList.length ≤ 50 := c2
      omega
  have hu : checkcast.message vm ks kt = toString "class " ++ toString ks.shown ++ toString " cannot be cast to class " ++ toString kt.shown ++ toString " (" ++ toString (vm.homes ks kt) ++ toString ")" := rfl
  rw [hu]
  refine tx_len ?_ ⟨("lass ".toList ++ (toString ks.shown).toList ++ (toString " cannot be cast to class ").toList ++ (toString kt.shown).toList ++ (toString " (").toList ++ (toString (vm.homes ks kt)).toList ++ (toString ")").toList), ?_⟩
  · simp only [String.toList_append, List.length_append]
    have e1 : (toString "class ").toList.length = 6 := by decide
    have e2 : (toString " cannot be cast to class ").toList.length = 25 := by decide
    have e3 : (toString ks.shown).toList.length ≤ 40 := by rw [a1]; exact hs.2.2.1
    have e4 : (toString kt.shown).toList.length ≤ 40 := by rw [a2]; exact ht.2.2.1
    have e5 : (toString (vm.homes ks kt)).toList.length ≤ 200 := b1
    have e6 : (toString " (").toList.length = 2 := by decide
    have e7 : (toString ")").toList.length = 1 := by decide
    omega
  · simp only [String.toList_append]
    rfl
theorem xc_cast {p : Program} {l : Launch} {e : Env} {R : Room} {s : State} {m : MethodId} {args : Array Value} {below : List Frame} {meth : Method} {c : Code} {T : State} {locs : List Loc} {cells slots : Nat} (X : Stand p l e R s m args below meth c T locs cells slots) (hexec : p.tables.exec = Jvm.exec)
    {own name : String} {index : Nat} (hown : s.vm.findClass own = some m.cls) (hlink : (Cond.classLink own index name).before args s = true)
    {a : Addr} {cell : Cell} {cT : ClassId} {ks : Class} (hcell : T.heap[a]? = some cell) (hobj : ∀ k, cell.vm ≠ .statics k) (hks : s.vm.classes[cell.cls]? = some ks)
    (hcT : s.vm.findClass name = some cT) (hasg : s.vm.assignable cell.cls cT = false)
    {g : JFrame} (hg : g.method = m) {rest : List Value} (hstack : g.stack = .ref a :: rest) (hdg : decode c.code g.pc = .ok (.checkcast index, 3)) :
    ∃ (vm' : Vm) (ks' kt kt' : Class), Stand p l e R s m args below meth c (T.setVm vm') locs cells slots ∧ s.vm.Alike vm' ∧ ks' = { ks with resolved := ks'.resolved, nestHost := ks'.nestHost, nestHostError := ks'.nestHostError } ∧ s.vm.classes[cT]? = some kt ∧ kt' = { kt with resolved := kt'.resolved, nestHost := kt'.nestHost, nestHostError := kt'.nestHostError } ∧
      ∀ target, Steps p.tables e below (((T.setVm vm').setTop g).pushFrame (.throwNew nCCE (some (checkcast.message vm' ks' kt')) none)) target → Steps p.tables e below (T.setTop g) target := by
  have hpl : e.platform.magicAccessors = ({} : Platform).magicAccessors := by rw [X.admits.platform]
  obtain ⟨c', hc', hcl⟩ := Cond.classLink_spec hown hlink e.platform hpl
  cases hcT.symm.trans hc'
  obtain ⟨dk, _, _, kt, hd, _, _, _, _, hkt, _, hopen⟩ := hcl.here
  have hcl₀ := X.warmed.classLinks hcl
  have hW' : s.WarmedH (T.vm.noted m.cls index (.cls cT)) := X.warmed.noted hd hopen (State.rightAt_cls hcl)
  obtain ⟨ks', hks', heks⟩ := hW'.alike.2.2 _ _ hks
  obtain ⟨kt', hkt', hekt⟩ := hW'.alike.2.2 _ _ hkt
  refine ⟨_, ks', kt, kt', X.noted hW', hW'.alike, heks, hkt, hekt, fun target hrest => ?_⟩
  subst hg
  jvm_step X.here [hexec, hdg, checkcast.wp_cold (e := e) (s := T) (f := g) X.here.top hstack (resolveClass_links e.toSetting hcl₀) hcl₀.ready,
    checkcast.wp_ready (e := e) (s := T.setVm (T.vm.noted g.method.cls index (.cls cT))) (f := g) X.here.top hcl₀.ready hstack]
  refine ⟨cell, hcell, hobj, ks', hks', kt', hkt', ?_⟩
  rw [if_neg (by rw [hW'.alike.assignable, hasg]; decide)]
  exact hrest
theorem plainK.of {vm : Vm} {nm : String} {c : ClassId} {k k' : Class} (h : vm.findClass nm = some c) (hk : vm.classes[c]? = some k) (he : k' = { k with resolved := k'.resolved, nestHost := k'.nestHost, nestHostError := k'.nestHostError }) (h1 : (dotted nm).toList.length ≤ 40) (h2 : packageOf nm = "") : plainK k' := by
  obtain ⟨hlt, hp, -⟩ := Array.findIdx?_eq_some_iff_getElem.mp h
  have hkk : vm.classes[c] = k := by
    rw [Array.getElem?_eq_getElem hlt] at hk
    exact Option.some.inj hk
  rw [hkk] at hp
  simp only [Bool.and_eq_true, beq_iff_eq, Option.isNone_iff_eq_none] at hp
  obtain ⟨⟨⟨q1, q2⟩, -⟩, q4⟩ := hp
  have e1 : k'.name = nm := by rw [he]; exact q1
  refine ⟨by rw [he]; exact q2, by rw [he]; exact q4, by rw [e1]; exact h1, by rw [e1]; exact h2⟩
theorem CT_plain : ∀ n, n < 4 → (dotted (CT n)).toList.length ≤ 40 ∧ packageOf (CT n) = "" := n4 (by decide +kernel) (by decide +kernel) (by decide +kernel) (by decide +kernel)
section CastN
variable {G : Gx} {own : String} {cc : ByteArray} {nL pc : Nat} {σ : St} {lv : List (Nat × Value)} {st : List Value} {X : Xw} {q n : Nat}
theorem thr_cce (Γ : Ok G own cc nL) (Ξ : OkX 0 G X) (hXT : XT X (gs G)) (hq : kTr q) (hL : cL σ q = some n) {nm : String} {index : Nat} (hlink : Cond.classLink own index nm ∈ lw_all) (hno : n < 4 → va_Nc (CT n) nm (gs G)) (hp : (dotted nm).toList.length ≤ 40 ∧ packageOf nm = "") (hr : (st.map fun v => v.category).sum ≤ 7) (d : decode cc pc = .ok (.checkcast index, 3)) : ThrX G nL σ lv (.ref (xad X q) :: st) pc nCCE := fun T locs ls hP hl X0 => by
  rw [Ξ.2.1] at hP
  have hn := tr_n4 hP hq hL
  obtain ⟨cell, q1, q2, q3⟩ := tr_recv Ξ hP hq hL
  obtain ⟨c1, t1, w1, w2, w3⟩ := hno hn
  cases q3.symm.trans w1
  obtain ⟨kX, hkX⟩ := Vm.classAt_of_findClass q3
  obtain ⟨vm', ks', kt, kt', X', hal, he1, hkt, he2, hgo⟩ := xc_cast X0 Γ.1 Γ.2.2.2.1 (Γ.2.2.2.2 _ hlink) (a := xad X q) q1 (VmData.ne_statics_of q2) hkX w2 w3 (g := F0 (gm G) pc ls (.ref (xad X q) :: st)) rfl rfl (by rw [Γ.2.1]; exact d)
  refine ⟨T.setVm vm', .ref (xad X q) :: st, _, ?_, rfl, X', ?_, hgo⟩
  · refine cast_tx ?_ (plainK.of q3 hkX he1 (CT_plain n hn).1 (CT_plain n hn).2) (plainK.of w2 hkt he2 hp.1 hp.2)
    have hm := hXT.2.2.2.2.2.2
    unfold modulesRight_1 at hm
    have e1 : vm'.modules = (gs G).vm.modules := by rw [hal.1]
    rw [e1]
    exact hm
  · show 1 + (st.map fun v => v.category).sum ≤ 8
    omega
end CastN
