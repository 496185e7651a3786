/-! rules for what is thrown and caught; contracts of the methods that do so -/
abbrev nNAS : String := "java/lang/NegativeArraySizeException"
abbrev nNPE : String := "java/lang/NullPointerException"
abbrev nAIO : String := "java/lang/ArrayIndexOutOfBoundsException"
abbrev nIOB : String := "java/lang/IndexOutOfBoundsException"
abbrev nARI : String := "java/lang/ArithmeticException"
abbrev nCCE : String := "java/lang/ClassCastException"
abbrev nsRE : List String := ["java/lang/RuntimeException", "java/lang/Exception"]
abbrev nsIRE : List String := ["java/lang/IndexOutOfBoundsException", "java/lang/RuntimeException", "java/lang/Exception"]
def xtw : List Cond := Bundle.messageArmAtoms nNAS nsRE ++ (Bundle.messageArmAtoms nAIO nsIRE ++ (Bundle.messageArmAtoms nARI nsRE ++ (Bundle.messageArmAtoms nCCE nsRE ++ (Bundle.npeArmAtoms 8 ++ [.castable nAIO nIOB]))))
/-- a word of the tables, or that a static is a reference -/
def okw : Cond → Bool
  | .isRef (.static _ _ _) => true
  | .laysStatic _ _ _ => true
  | .arrayClass _ => true
  | w => w.onTables
theorem xtw_ok : xtw.all okw = true := by decide +kernel
/-- the pairs that don't cast -/
def xtn : List (String × String) := [(nAIO, nNPE), (RX2, RX3), (RX4, RX3), (RX2, RX4), (RX3, RX4), (RX5, RX4), (RX2, RX5), (RX3, RX5), (RX4, RX5)]
/-- what a method that throws asks of its state: the words of the exceptions, the statics lie outside the region, what is new lies inside -/
def XT (X : Xw) (U : State) : Prop := (∀ w ∈ xtw, w.before #[] U = true) ∧ (∀ (q : Nat) (cell : Cell), U.heap[q]? = some cell → cell.vm.isStatics = true → ¬ xR X q) ∧ (∀ q ∈ xtn, va_Nc q.1 q.2 U) ∧ (∀ q : Nat, U.heap.size ≤ q → xR X q) ∧ (∃ k : Class, U.vm.classes[xA X 4]? = some k ∧ k.kind = .array (xA X 0) (.array .int)) ∧ (∃ k : Class, U.vm.classes[xA X 5]? = some k ∧ k.kind = .array (xA X 2) (.array .byte)) ∧ modulesRight_1 U = true
theorem okw_any {w : Cond} (hw : okw w = true) {A A' : Array Value} {U : State} (h : w.before A U = true) : w.before A' U = true := by
  unfold okw at hw
  split at hw
  · exact h
  · exact h
  · exact h
  · exact va_tabs hw rfl h
theorem XT.use {X : Xw} {U : State} (h : XT X U) {w : Cond} (hw : w ∈ xtw) (A : Array Value) : w.before A U = true := okw_any (List.all_eq_true.mp xtw_ok w hw) (h.1 w hw)
abbrev txIdx (i : Int32) (n : Nat) : String := toString "Index " ++ toString i ++ toString " out of bounds for length " ++ toString n
/-- a text that can be laid -/
def txOk (t : String) : Prop := (t == notModelled) = false ∧ (stringBytes (stringToUtf16 t)).size ≤ 2000
abbrev gUp (G : Gx) (k n : Nat) : Gx := (gp G, gl G, ge G, gR G, gs G, gm G, gar G, gbe G, gme G, gc G, k, n, gQ G, gP G, gA G)
section Exc3
variable {G : Gx} {own : String} {cc : ByteArray} {nL pc : Nat} {σ σ' : St} {lv lv' : List (Nat × Value)} {st : List Value} {z : Nat} {X : Xw}
abbrev gS (G : Gx) (T : State) (locs : List Loc) (k n : Nat) : Prop := Stand (gp G) (gl G) (ge G) (gR G) (gs G) (gm G) (gar G) (gbe G) (gme G) (gc G) T locs k n
theorem A_up {k n : Nat} (hk : gk G ≤ k) (hn : gn G ≤ n) (kk : At (gUp G k n) nL σ lv st pc) : At G nL σ lv st pc := fun H locs ls hS hP hl => W.widen hk hn (kk H locs ls hS hP hl)
/-- the instruction at pc throws a new exception -/
def Thr (G : Gx) (nL : Nat) (σ : St) (lv : List (Nat × Value)) (st : List Value) (pc : Nat) (cls : String) (text : Option String) : Prop :=
  ∀ (T : State) (locs : List Loc) (ls : Array Slot), gP G σ T.heap → lv_has ls nL lv → gS G T locs (gk G) (gn G) → ∃ (T2 : State) (rest : List Value), T2.heap = T.heap ∧ gS G T2 locs (gk G) (gn G) ∧ (rest.map fun v => v.category).sum ≤ 8 ∧
    ∀ target, Steps (gp G).tables (ge G) (gbe G) ((T2.setTop (F0 (gm G) pc ls rest)).pushFrame (.throwNew cls text none)) target → Steps (gp G).tables (ge G) (gbe G) (T.setTop (F0 (gm G) pc ls st)) target
/-- the same, with a text that hangs on the tables -/
def ThrX (G : Gx) (nL : Nat) (σ : St) (lv : List (Nat × Value)) (st : List Value) (pc : Nat) (cls : String) : Prop :=
  ∀ (T : State) (locs : List Loc) (ls : Array Slot), gP G σ T.heap → lv_has ls nL lv → gS G T locs (gk G) (gn G) → ∃ (T2 : State) (rest : List Value) (text : String), txOk text ∧ T2.heap = T.heap ∧ gS G T2 locs (gk G) (gn G) ∧ (rest.map fun v => v.category).sum ≤ 8 ∧
    ∀ target, Steps (gp G).tables (ge G) (gbe G) ((T2.setTop (F0 (gm G) pc ls rest)).pushFrame (.throwNew cls (some text) none)) target → Steps (gp G).tables (ge G) (gbe G) (T.setTop (F0 (gm G) pc ls st)) target
theorem Thr.x {cls text : String} (h : Thr G nL σ lv st pc cls (some text)) (htx : txOk text) : ThrX G nL σ lv st pc cls := fun T locs ls hP hl X0 => by
  obtain ⟨T2, rest, h1, h2, h3, h4⟩ := h T locs ls hP hl X0
  exact ⟨T2, rest, text, htx, h1, h2, h3, h4⟩
theorem A_thrM (Γ : Ok G own cc nL) (Ξ : OkX z G X) (hXT : XT X (gs G)) (htr : (gl G).stackTraces = false) {cls : String} {names : List String} (hat : ∀ a ∈ Bundle.messageArmAtoms cls names, a ∈ xtw) (hf : (Bundle.fit cls && names.all Bundle.fit && !(cls == "java/lang/StackOverflowError") && !(cls == "java/lang/OutOfMemoryError")) = true)
    {rows : List (Nat × Nat × Nat × Nat)} {hp : Nat} (hrows : (gc G).exceptionTable.toList.map xc_row = rows) (hx : XcAt (gar G) (gs G) own pc cls rows hp) (hth : ThrX G nL σ lv st pc cls)
    (hR : names.length + 4 < (gR G).frames ∧ 8 + 10240 ≤ (gR G).locals ∧ names.length ≤ 10) {k n : Nat} (hk : gk G + 3 ≤ k ∧ k ≤ (gR G).cells) (hn : gn G + 2010 ≤ n ∧ n ≤ (gR G).slots)
    (kk : ∀ a : Nat, At (gUp G k n) nL σ lv [.ref a] hp) : At G nL σ lv st pc := by
  intro H locs ls hS hP hl T hT X0
  simp only [Bool.and_eq_true, Bool.not_eq_true'] at hf
  obtain ⟨⟨⟨hf1, hf2⟩, hf3⟩, hf4⟩ := hf
  obtain ⟨T2, rest, text, htx, hh, X2, hrest, hstep⟩ := hth T locs ls (by rw [hT]; exact hP) hl X0
  have hlocs : ∀ x ∈ locs, ∀ cell, (gs G).heap[x.base]? = some cell → cell.vm.isStatics = false := fun x hx cell hc => by
    cases hb : cell.vm.isStatics with
    | false => rfl
    | true => exact absurd (by rw [← Ξ.2.2.1]; exact hS.2.2 x hx) (hXT.2.1 _ cell hc hb)
  obtain ⟨U, ce, X3, hz, hkeep, hce, hvm, hcls, hgo⟩ := xc_msg X2 Γ.1 (by rw [X0.admits.platform]; exact htr) (text := text) hf1 (fun n hn => List.all_eq_true.mp hf2 n hn) hf3 hf4 (fun a ha => hXT.use (hat a ha) _) hlocs htx.1
    (by rw [Launch.admits_arrayLengthLimit X0.admits]; have := htx.2; omega) (by rw [Launch.admits_maxHeapBytes X0.admits]; have := htx.2; have h1 : componentBytes .byte = 1 := rfl; rw [h1]; omega)
    (g := F0 (gm G) pc ls rest) rfl (hl.1.trans Γ.2.2.1.symm) hR.1 (by
      have h1 := lv_room (rest := rest) (ls := ls) (pc := pc) (m := gm G) hrest
      have h2 : 2 * (F0 (gm G) pc ls rest).monitorRoom + (rest.map fun v => v.category).sum ≤ 8 := h1
      show 2 * (F0 (gm G) pc ls rest).monitorRoom + (rest.map fun v => v.category).sum + 10240 ≤ _
      omega) (by omega) (by omega) (by have := htx.2; omega)
  obtain ⟨vm', X4, hgo2⟩ := xc_to X3 Γ.2.2.2.1 hrows hx hce hvm hcls (g := F0 (gm G) pc ls rest) rfl rfl
  have hH : ∀ q : Nat, q < H.size → U.heap[q]? = H[q]? := fun q hq => by
    rw [hkeep q (by rw [hh, hT]; exact hq), hh, hT]
  have hHz : H.size ≤ U.heap.size := by rw [← hT, ← hh]; exact hz
  have X5 := stand_widen X4 (k := k) (n := n) (by omega) (by have := htx.2; omega)
  obtain ⟨t, a1, b1⟩ := kk (T2.heap.size + 2) U.heap locs ls ⟨Nat.le_trans hS.1 hHz, fun q h1 h2 => by rw [hH q (Nat.lt_of_lt_of_le h1 hS.1)]; exact hS.2.1 q h1 h2, hS.2.2⟩ (by
      show gP G σ U.heap
      rw [Ξ.2.1] at hP ⊢
      exact hP.kept (fun q hq _ => hH q hq)) hl (U.setVm vm') rfl X5
  exact ⟨t, hstep _ (hgo _ (hgo2 _ a1)), b1⟩
theorem A_thrN (Γ : Ok G own cc nL) (Ξ : OkX z G X) (hXT : XT X (gs G)) (htr : (gl G).stackTraces = false)
    {rows : List (Nat × Nat × Nat × Nat)} {hp : Nat} (hrows : (gc G).exceptionTable.toList.map xc_row = rows) (hx : XcAt (gar G) (gs G) own pc nNPE rows hp) (hth : Thr G nL σ lv st pc nNPE none)
    (hR : 7 < (gR G).frames ∧ 8 + 10240 ≤ (gR G).locals) {k n : Nat} (hk : gk G + 1 ≤ k ∧ k ≤ (gR G).cells) (hn : gn G + 8 ≤ n ∧ n ≤ (gR G).slots)
    (kk : ∀ a : Nat, At (gUp G k n) nL σ lv [.ref a] hp) : At G nL σ lv st pc := by
  intro H locs ls hS hP hl T hT X0
  obtain ⟨T2, rest, hh, X2, hrest, hstep⟩ := hth T locs ls (by rw [hT]; exact hP) hl X0
  have hlocs : ∀ x ∈ locs, ∀ cell, (gs G).heap[x.base]? = some cell → cell.vm.isStatics = false := fun x hx cell hc => by
    cases hb : cell.vm.isStatics with
    | false => rfl
    | true => exact absurd (by rw [← Ξ.2.2.1]; exact hS.2.2 x hx) (hXT.2.1 _ cell hc hb)
  obtain ⟨U, ce, X3, hz, hkeep, hce, hvm, hcls, hgo⟩ := xc_npe X2 Γ.1 (by rw [X0.admits.platform]; exact htr) (n := 8) (fun a ha => hXT.use (by unfold xtw; simp only [List.mem_append]; exact Or.inr (Or.inr (Or.inr (Or.inr (Or.inl ha))))) _) hlocs
    (g := F0 (gm G) pc ls rest) rfl (hl.1.trans Γ.2.2.1.symm) hR.1 (by
      have h1 := lv_room (rest := rest) (ls := ls) (pc := pc) (m := gm G) hrest
      have h2 : 2 * (F0 (gm G) pc ls rest).monitorRoom + (rest.map fun v => v.category).sum ≤ 8 := h1
      show 2 * (F0 (gm G) pc ls rest).monitorRoom + (rest.map fun v => v.category).sum + 10240 ≤ _
      omega) (by omega) (by omega)
  obtain ⟨vm', X4, hgo2⟩ := xc_to X3 Γ.2.2.2.1 hrows hx hce hvm hcls (g := F0 (gm G) pc ls rest) rfl rfl
  have hH : ∀ q : Nat, q < H.size → U.heap[q]? = H[q]? := fun q hq => by
    rw [hkeep q (by rw [hh, hT]; exact hq), hh, hT]
  have hHz : H.size ≤ U.heap.size := by rw [← hT, ← hh]; exact hz
  have X5 := stand_widen X4 (k := k) (n := n) (by omega) (by omega)
  obtain ⟨t, a1, b1⟩ := kk T2.heap.size U.heap locs ls ⟨Nat.le_trans hS.1 hHz, fun q h1 h2 => by rw [hH q (Nat.lt_of_lt_of_le h1 hS.1)]; exact hS.2.1 q h1 h2, hS.2.2⟩ (by
      show gP G σ U.heap
      rw [Ξ.2.1] at hP ⊢
      exact hP.kept (fun q hq _ => hH q hq)) hl (U.setVm vm') rfl X5
  exact ⟨t, hstep _ (hgo _ (hgo2 _ a1)), b1⟩
/-! which instructions throw -/
theorem thr_nas (Γ : Ok G own cc nL) {n : Int32} (hn : n < 0) {at_ : ArrayType} (hr : (st.map fun v => v.category).sum ≤ 8) (d : decode cc pc = .ok (.newarray at_, 2)) : Thr G nL σ lv (.int n :: st) pc nNAS (some (toString n)) := fun T locs ls hP hl X0 =>
  ⟨T, st, rfl, X0, hr, X0.newarrayNegative Γ.1 (g := F0 (gm G) pc ls (.int n :: st)) rfl hn rfl (by rw [Γ.2.1]; exact d)⟩
theorem thr_ldiv (Γ : Ok G own cc nL) {a : Int64} (hr : (st.map fun v => v.category).sum ≤ 8) (d : decode cc pc = .ok (.ldiv, 1)) : Thr G nL σ lv (.long 0 :: .long a :: st) pc nARI (some "/ by zero") := fun T locs ls hP hl X0 =>
  ⟨T, st, rfl, X0, hr, X0.ldivZero Γ.1 (g := F0 (gm G) pc ls (.long 0 :: .long a :: st)) rfl rfl (by rw [Γ.2.1]; exact d)⟩
theorem thr_iald0 (Γ : Ok G own cc nL) {i : Int32} (hr : (st.map fun v => v.category).sum ≤ 8) (d : decode cc pc = .ok (.iaload, 1)) : Thr G nL σ lv (.int i :: .null :: st) pc nNPE none := fun T locs ls hP hl X0 =>
  ⟨T, st, rfl, X0, hr, X0.ialoadNull Γ.1 (g := F0 (gm G) pc ls (.int i :: .null :: st)) rfl rfl (by rw [Γ.2.1]; exact d)⟩
theorem thr_bald0 (Γ : Ok G own cc nL) {i : Int32} (hr : (st.map fun v => v.category).sum ≤ 8) (d : decode cc pc = .ok (.baload, 1)) : Thr G nL σ lv (.int i :: .null :: st) pc nNPE none := fun T locs ls hP hl X0 =>
  ⟨T, st, rfl, X0, hr, X0.baloadNull Γ.1 (g := F0 (gm G) pc ls (.int i :: .null :: st)) rfl rfl (by rw [Γ.2.1]; exact d)⟩
theorem thr_iald (Γ : Ok G own cc nL) (Ξ : OkX 0 G X) {q n : Nat} {i : Int32} (hq : 100 ≤ q ∧ q < 110) (hL : cL σ q = some n) (hi : i < 0 ∨ n ≤ i.toNatClampNeg) (hr : (st.map fun v => v.category).sum ≤ 8) (d : decode cc pc = .ok (.iaload, 1)) : Thr G nL σ lv (.int i :: .ref (xad X q) :: st) pc nAIO (some (txIdx i n)) := fun T locs ls hP hl X0 => by
  rw [Ξ.2.1] at hP
  have hc := (hP.2.2.1 rfl q n hq.1 hL).1 (Or.inl hq.2)
  have h := X0.ialoadOut Γ.1 (j := i) hc ((Ξ.1.2 0 _ rfl).1 _ _) (by rw [arrV_size]; exact hi) (g := F0 (gm G) pc ls (.int i :: .ref (xad X q) :: st)) rfl (rest := st) rfl (by rw [Γ.2.1]; exact d)
  rw [arrV_size] at h
  exact ⟨T, st, rfl, X0, hr, h⟩
theorem thr_bald (Γ : Ok G own cc nL) (Ξ : OkX 0 G X) {q n : Nat} {i : Int32} (hq : 110 ≤ q ∧ q < 120) (hL : cL σ q = some n) (hi : i < 0 ∨ n ≤ i.toNatClampNeg) (hr : (st.map fun v => v.category).sum ≤ 8) (d : decode cc pc = .ok (.baload, 1)) : Thr G nL σ lv (.int i :: .ref (xad X q) :: st) pc nAIO (some (txIdx i n)) := fun T locs ls hP hl X0 => by
  rw [Ξ.2.1] at hP
  have hc := (hP.2.2.1 rfl q n (by omega) hL).2.1 hq.1 hq.2
  have h := X0.baloadOut Γ.1 (j := i) hc ((Ξ.1.2 2 _ rfl).1 _ _) (by rw [arrV_size]; exact hi) (g := F0 (gm G) pc ls (.int i :: .ref (xad X q) :: st)) rfl (rest := st) rfl (by rw [Γ.2.1]; exact d)
  rw [arrV_size] at h
  exact ⟨T, st, rfl, X0, hr, h⟩
end Exc3
theorem tx_index (i : Int32) {n : Nat} (h : n < 2 ^ 31) : txOk (txIdx i n) := ⟨index_text_modelled i n, Nat.le_trans (index_text_bytes i h) (by decide)⟩
theorem tx_neg {n : Int32} (h : n < 0) : txOk (toString n) := ⟨negative_text_modelled h, Nat.le_trans (negative_text_bytes n) (by decide)⟩
theorem tx_zero : txOk "/ by zero" := ⟨by decide +kernel, by decide +kernel⟩
/-! contracts -/
abbrev xUp (X : Xw) (ad : Nat → Nat) : Xw := (xo X, ad, xC X, xI X, xA X, xR X)
abbrev rmE (f lo mc ms : Nat) : Room := { frames := f, cells := mc, slots := ms, locals := lo }
/-- a method of the class that may throw and catch, and lay new cells -/
def MetE (l : Launch) (X : Xw) (y : MethodName) (cc : ByteArray) (nL : Nat) (ret : Option FieldType) (hh : List (Nat × Nat × Nat × Nat)) (f lo mc ms : Nat) (av : List Value) (σ : St) (rv : Option Value) (σ' : St) : Prop :=
  Met l y (wsW_ y cc nL ret hh) (rmE f lo mc ms) (va_Pc av (fun U => Pic 0 X σ U.heap ∧ KX X U ∧ XK U ∧ XT X U)) (fun _ st oc t => oc = .returned rv ∧ (∃ ad, Pic 0 (xUp X ad) σ' t.heap) ∧ va_F (xR X) st t) mc ms (xR X)
def RmE (G : Gx) (f lo mc ms : Nat) : Prop := gR G = rmE f lo mc ms ∧ gk G = 0 ∧ gn G = 0
theorem MetE.ofAt {l : Launch} {X : Xw} {y : MethodName} {cc : ByteArray} {nL : Nat} {ret : Option FieldType} {hh : List (Nat × Nat × Nat × Nat)} {f lo mc ms : Nat} {av : List Value} {σ : St} {rv : Option Value} {σ' : St} (hy : plainName y.cls = true) (hav : (lg_sl av).length ≤ nL)
    (hbody : ∀ G : Gx, gl G = l → Ok G y.cls cc nL → OkX 0 G X → XT X (gs G) → (gc G).exceptionTable.toList.map xc_row = hh → RmE G f lo mc ms → (∀ (G1 : Gx) (ad : Nat → Nat) (pc : Nat) (lv : List (Nat × Value)), retIs cc ret rv pc → G1 = (gp G, gl G, ge G, gR G, gs G, gm G, gar G, gbe G, gme G, gc G, mc, ms, gQ G, Pic 0 (xUp X ad), gA G) → At G1 nL σ' lv rv.toList pc) → At G nL σ (lv_args 0 av) [] 0) : MetE l X y cc nL ret hh f lo mc ms av σ rv σ' := by
  refine va_MetW (cc := cc) (maxL := nL) (ret := ret) (hh := hh) hy rfl ?_
  intro p e s m args below meth c s₁ B hml hv
  obtain ⟨rfl, hP, hK, hXK, hXT⟩ := hv
  have hts0 := atoms_spec (ws := wsW_ y cc nL ret hh) B.pre
  have hts : ∀ w ∈ lw_all, w.before _ s = true := fun w h => hts0 w (List.mem_cons_of_mem _ h)
  have hown : s.vm.findClass y.cls = some m.cls := findClass_of_methodNamed B.named
  have htab : c.exceptionTable.toList.map xc_row = hh := by
    obtain ⟨m9, meth9, c9, hn9, h1, h2, h3, h4, h5, -, -, -⟩ := Cond.codeWith_spec (hts0 _ List.mem_cons_self)
    cases hn9.symm.trans B.named
    cases h1.symm.trans B.method
    cases h2.symm.trans (Stand.of_body B).code
    exact h5
  have hl := lv_entry av (n := nL) hav
  rw [lg_entry_eq]
  generalize (lg_sl av ++ List.replicate (nL - (lg_sl av).length) Slot.unset).toArray = ls at hl ⊢
  let G : Gx := (p, l, e, (headSpec (wsW_ y cc nL ret hh) (rmE f lo mc ms)).room, s, m, av.toArray, below, meth, c, 0, 0, MQ below (fun _ st oc t => oc = .returned rv ∧ (∃ ad, Pic 0 (xUp X ad) σ' t.heap) ∧ va_F (xR X) st t) av.toArray s mc ms (xR X), Pic 0 X, xR X)
  refine hbody G rfl ⟨B.exec, B.bytes, hml, hown, hts⟩ ⟨hK, rfl, rfl, hXK⟩ hXT htab ⟨rfl, rfl, rfl⟩ ?_ s.heap [] ls va_S.rf hP hl
  intro G1 ad pc lv hd hG H locs ls hS hP hl
  subst hG
  show W p l e _ s m av.toArray below meth c H locs mc ms (MQ below (fun _ st oc t => oc = .returned rv ∧ (∃ ad, Pic 0 (xUp X ad) σ' t.heap) ∧ va_F (xR X) st t) av.toArray s mc ms (xR X)) (F0 m pc ls rv.toList)
  exact ret_W B.exec B.bytes B.returns B.notSynchronized (fun t ht hW => ⟨rfl, ⟨ad, by rw [ht]; exact hP⟩, hS.F ht⟩) hS.2.2 hd
