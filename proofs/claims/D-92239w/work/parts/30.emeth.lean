/-! the methods that throw and catch: lay, put, mean -/
theorem xt_nas : Cond.castable nNAS nNAS ∈ xtw := by unfold xtw; refine List.mem_append_left _ ?_; simp [Bundle.messageArmAtoms]
theorem xt_aio : Cond.castable nAIO nIOB ∈ xtw := by unfold xtw; refine List.mem_append_right _ (List.mem_append_right _ (List.mem_append_right _ (List.mem_append_right _ (List.mem_append_right _ ?_)))); exact List.mem_cons_self
theorem xt_ari : Cond.castable nARI nARI ∈ xtw := by unfold xtw; refine List.mem_append_right _ (List.mem_append_right _ (List.mem_append_left _ ?_)); simp [Bundle.messageArmAtoms]
theorem xt_cce : Cond.castable nCCE nCCE ∈ xtw := by unfold xtw; refine List.mem_append_right _ (List.mem_append_right _ (List.mem_append_right _ (List.mem_append_left _ ?_))); simp [Bundle.messageArmAtoms]
theorem xt_npe : Cond.castable nNPE nNPE ∈ xtw := by unfold xtw; refine List.mem_append_right _ (List.mem_append_right _ (List.mem_append_right _ (List.mem_append_right _ (List.mem_append_left _ ?_)))); simp [Bundle.npeArmAtoms, Bundle.nN]
theorem xm_nas : ∀ a ∈ Bundle.messageArmAtoms nNAS nsRE, a ∈ xtw := fun a h => by unfold xtw; exact List.mem_append_left _ h
theorem xm_aio : ∀ a ∈ Bundle.messageArmAtoms nAIO nsIRE, a ∈ xtw := fun a h => by unfold xtw; exact List.mem_append_right _ (List.mem_append_left _ h)
theorem xm_ari : ∀ a ∈ Bundle.messageArmAtoms nARI nsRE, a ∈ xtw := fun a h => by unfold xtw; exact List.mem_append_right _ (List.mem_append_right _ (List.mem_append_left _ h))
theorem xm_cce : ∀ a ∈ Bundle.messageArmAtoms nCCE nsRE, a ∈ xtw := fun a h => by unfold xtw; exact List.mem_append_right _ (List.mem_append_right _ (List.mem_append_right _ (List.mem_append_left _ h)))
abbrev eF : Nat := 8
abbrev eLo : Nat := 10400
abbrev eMc : Nat := 3
abbrev eMs : Nat := 2010
theorem RmE.rm {G : Gx} {f lo mc ms F LO : Nat} (h : RmE G f lo mc ms) (h1 : F ≤ f) (h2 : LO ≤ lo) : Rm G F LO := by
  unfold Rm
  rw [h.1, h.2.1, h.2.2]
  exact ⟨h1, h2, Nat.zero_le _, Nat.zero_le _⟩
theorem RmE.rmU {G : Gx} {f lo mc ms F LO : Nat} (h : RmE G f lo mc ms) (h1 : F ≤ f) (h2 : LO ≤ lo) : Rm (gUp G mc ms) F LO := by
  refine ⟨?_, ?_, ?_, ?_⟩
  · show F ≤ (gR G).frames
    rw [h.1]; exact h1
  · show LO ≤ (gR G).locals
    rw [h.1]; exact h2
  · show mc ≤ (gR G).cells
    rw [h.1]; exact Nat.le_refl _
  · show ms ≤ (gR G).slots
    rw [h.1]; exact Nat.le_refl _
/-- where nothing new is kept -/
theorem MetE.of0 {l : Launch} {X : Xw} {y : MethodName} {cc : ByteArray} {nL : Nat} {ret : Option FieldType} {hh : List (Nat × Nat × Nat × Nat)} {f lo mc ms : Nat} {av : List Value} {σ : St} {rv : Option Value} {σ' : St} (hy : plainName y.cls = true) (hav : (lg_sl av).length ≤ nL)
    (hbody : ∀ G : Gx, gl G = l → Ok G y.cls cc nL → OkX 0 G X → XT X (gs G) → (gc G).exceptionTable.toList.map xc_row = hh → RmE G f lo mc ms → (∀ (pc : Nat) (lv : List (Nat × Value)), retIs cc ret rv pc → At (gUp G mc ms) nL σ' lv rv.toList pc) → At G nL σ (lv_args 0 av) [] 0) : MetE l X y cc nL ret hh f lo mc ms av σ rv σ' := by
  refine MetE.ofAt hy hav (fun G hl Γ Ξ hXT htab hRm hret => hbody G hl Γ Ξ hXT htab hRm (fun pc lv hd => ?_))
  have h := hret _ (xad X) pc lv hd rfl
  have e : gUp G mc ms = (gp G, gl G, ge G, gR G, gs G, gm G, gar G, gbe G, gme G, gc G, mc, ms, gQ G, Pic 0 (xUp X (xad X)), gA G) := by
    show (gp G, gl G, ge G, gR G, gs G, gm G, gar G, gbe G, gme G, gc G, mc, ms, gQ G, gP G, gA G) = _
    rw [Ξ.2.1]
  rw [e]
  exact h
section EM
variable {G : Gx} {cc : ByteArray} {nL pc : Nat} {σ : St} {lv : List (Nat × Value)} {st : List Value} {X : Xw} {rows : List (Nat × Nat × Nat × Nat)} {hp : Nat}
/-- an exception with a message, in the class -/
theorem E_msg (Γ : Ok G RX0 cc nL) (Ξ : OkX 0 G X) (hXT : XT X (gs G)) (htr : (gl G).stackTraces = false) (hRm : RmE G eF eLo eMc eMs) {cls text : String} {names : List String} (hat : ∀ a ∈ Bundle.messageArmAtoms cls names, a ∈ xtw) (hf : (Bundle.fit cls && names.all Bundle.fit && !(cls == "java/lang/StackOverflowError") && !(cls == "java/lang/OutOfMemoryError")) = true) (hn : names.length ≤ 3) (htx : txOk text)
    (hrows : (gc G).exceptionTable.toList.map xc_row = rows) (hx : XcAt (gar G) (gs G) RX0 pc cls rows hp) (hth : Thr G nL σ lv st pc cls (some text)) (kk : ∀ a : Nat, At (gUp G eMc eMs) nL σ lv [.ref a] hp) : At G nL σ lv st pc := by
  refine A_thrM Γ Ξ hXT htr hat hf hrows hx (hth.x htx) ?_ (k := eMc) (n := eMs) ?_ ?_ kk
  · rw [hRm.1]
    exact ⟨show names.length + 4 < 8 by omega, show 8 + 10240 ≤ 10400 by decide, by omega⟩
  · rw [hRm.1, hRm.2.1]
    exact ⟨Nat.le_refl _, Nat.le_refl _⟩
  · rw [hRm.1, hRm.2.2]
    exact ⟨Nat.le_refl _, Nat.le_refl _⟩
theorem E_msgX (Γ : Ok G RX0 cc nL) (Ξ : OkX 0 G X) (hXT : XT X (gs G)) (htr : (gl G).stackTraces = false) (hRm : RmE G eF eLo eMc eMs) {cls : String} {names : List String} (hat : ∀ a ∈ Bundle.messageArmAtoms cls names, a ∈ xtw) (hf : (Bundle.fit cls && names.all Bundle.fit && !(cls == "java/lang/StackOverflowError") && !(cls == "java/lang/OutOfMemoryError")) = true) (hn : names.length ≤ 3)
    (hrows : (gc G).exceptionTable.toList.map xc_row = rows) (hx : XcAt (gar G) (gs G) RX0 pc cls rows hp) (hth : ThrX G nL σ lv st pc cls) (kk : ∀ a : Nat, At (gUp G eMc eMs) nL σ lv [.ref a] hp) : At G nL σ lv st pc := by
  refine A_thrM Γ Ξ hXT htr hat hf hrows hx hth ?_ (k := eMc) (n := eMs) ?_ ?_ kk
  · rw [hRm.1]
    exact ⟨show names.length + 4 < 8 by omega, show 8 + 10240 ≤ 10400 by decide, by omega⟩
  · rw [hRm.1, hRm.2.1]
    exact ⟨Nat.le_refl _, Nat.le_refl _⟩
  · rw [hRm.1, hRm.2.2]
    exact ⟨Nat.le_refl _, Nat.le_refl _⟩
theorem E_npe (Γ : Ok G RX0 cc nL) (Ξ : OkX 0 G X) (hXT : XT X (gs G)) (htr : (gl G).stackTraces = false) (hRm : RmE G eF eLo eMc eMs) (hrows : (gc G).exceptionTable.toList.map xc_row = rows) (hx : XcAt (gar G) (gs G) RX0 pc nNPE rows hp) (hth : Thr G nL σ lv st pc nNPE none) (kk : ∀ a : Nat, At (gUp G eMc eMs) nL σ lv [.ref a] hp) : At G nL σ lv st pc := by
  refine A_thrN Γ Ξ hXT htr hrows hx hth ?_ (k := eMc) (n := eMs) ?_ ?_ kk
  · rw [hRm.1]
    exact ⟨show 7 < 8 by decide, show 8 + 10240 ≤ 10400 by decide⟩
  · rw [hRm.1, hRm.2.1]
    exact ⟨show 0 + 1 ≤ 3 by decide, Nat.le_refl _⟩
  · rw [hRm.1, hRm.2.2]
    exact ⟨show 0 + 8 ≤ 2010 by decide, Nat.le_refl _⟩
/-- the two handlers of lay, put and copy -/
theorem xh_npe (Γ : Ok G RX0 cc nL) (hXT : XT X (gs G)) {a b h1 h2 : Nat} (ha : a ≤ pc) (hb : pc < b) : XcAt (gar G) (gs G) RX0 pc nNPE [(a, b, h1, 189), (a, b, h2, 191)] h1 :=
  Or.inl ⟨ha, hb, by decide, nNPE, Γ.2.2.2.2 _ q405, Or.inl ⟨hXT.1 _ xt_npe, rfl⟩⟩
theorem xh_aio (Γ : Ok G RX0 cc nL) (hXT : XT X (gs G)) {a b h1 h2 : Nat} (ha : a ≤ pc) (hb : pc < b) : XcAt (gar G) (gs G) RX0 pc nAIO [(a, b, h1, 189), (a, b, h2, 191)] h2 :=
  Or.inl ⟨ha, hb, by decide, nNPE, Γ.2.2.2.2 _ q405, Or.inr ⟨hXT.2.2.1 (nAIO, nNPE) (List.mem_of_getElem? (i := 0) rfl), Or.inl ⟨ha, hb, by decide, nIOB, Γ.2.2.2.2 _ q430, Or.inl ⟨hXT.1 _ xt_aio, rfl⟩⟩⟩⟩
theorem xh_ari (Γ : Ok G RX0 cc nL) (hXT : XT X (gs G)) {a b h1 : Nat} (ha : a ≤ pc) (hb : pc < b) : XcAt (gar G) (gs G) RX0 pc nARI [(a, b, h1, 199)] h1 :=
  Or.inl ⟨ha, hb, by decide, nARI, Γ.2.2.2.2 _ q468, Or.inl ⟨hXT.1 _ xt_ari, rfl⟩⟩
theorem xh_nas (Γ : Ok G RX0 cc nL) (hXT : XT X (gs G)) {a b h1 : Nat} (ha : a ≤ pc) (hb : pc < b) : XcAt (gar G) (gs G) RX0 pc nNAS [(a, b, h1, 179)] h1 :=
  Or.inl ⟨ha, hb, by decide, nNAS, Γ.2.2.2.2 _ q305, Or.inl ⟨hXT.1 _ xt_nas, rfl⟩⟩
end EM
/-- a reading that may fall: nothing there, out of its bounds, or there -/
noncomputable def tryD {α : Type} (σ : St) (q : Nat) (i : Int32) (knull kout : Option α) (k : Nat → Option α) : Option α :=
  if (cL σ q).isSome = true then (B1 (cL σ q) fun n => if 2147483648 ≤ n then none else if i < 0 ∨ n ≤ i.toNatClampNeg then kout else k n) else knull

noncomputable def c_lay (σ : St) (a1 : Int32) (a2 : Int32) (a3 : Int32) : Option (Int32 × St) :=
  B1 (c_isRow a1) fun v2 =>
  if v2 = 0 then
    (some ((-1), σ))
  else
    (B1 (ixA 6 a1) fun k3 =>
    tryD σ (100 + k3) a2 (c_found σ 1) (c_found σ 2) fun n =>
    B1 (rdD σ (100 + k3) a2) fun v5 =>
    B1 (wrD σ (100 + k3) a2 a3) fun σ9 =>
    c_say σ9 v5 1)
set_option maxHeartbeats 4000000 in
set_option maxRecDepth 100000 in
theorem wkX0_lay {G : Gx} {X : Xw} {σ σ' : St} {a1 : Int32} {a2 : Int32} {a3 : Int32} (Γ : Ok G RX0 cX0_lay 5) (Ξ : OkX 0 G X) (hXT : XT X (gs G)) (htr : (gl G).stackTraces = false) (hrows : (gc G).exceptionTable.toList.map xc_row = [(9, 35, 36, 189), (9, 35, 44, 191)]) (hRm : RmE G eF eLo eMc eMs) {r : Int32} (h : c_lay σ a1 a2 a3 = some (r, σ')) (hret : ∀ (pc : Nat) (lv : List (Nat × Value)), retIs cX0_lay (some .int) (some (.int r)) pc → At (gUp G eMc eMs) 5 σ' lv [.int r] pc) : At G 5 σ [(0, .ref (xo X)), (1, .int a1), (2, .int a2), (3, .int a3)] [] 0 := by
  rw [c_lay] at h
  have hRU : Rm (gUp G eMc eMs) eF eLo := hRm.rmU (Nat.le_refl _) (Nat.le_refl _)
  refine A_iload_n Γ dX0_lay_0 1 rfl ?_
  replace h := b1 h
  obtain ⟨v2, e1, h⟩ := h
  refine kX0_X0isRow (F := eF) (LO := eLo) Γ (kpX Ξ) (hRm.rm (Nat.le_refl _) (Nat.le_refl _)) (by decide) (by decide) e1 (Nat.le_of_ble_eq_true rfl) dX0_lay_1 ?_
  refine A_if_ne (t := 9) Γ dX0_lay_4 (by decide) (fun c => ?_) (fun c => ?_)
  · replace h := it_f c h
    refine A_aload_n Γ dX0_lay_9 0 rfl ?_
    refine g0_5 Γ Ξ dX0_lay_10 ?_
    refine A_iload_n Γ dX0_lay_13 1 rfl ?_
    replace h := b1 h
    obtain ⟨k3, e4, h⟩ := h
    refine A_rows Γ Ξ e4 dX0_lay_14 ?_
    refine A_iload_n Γ dX0_lay_15 2 rfl ?_
    rw [tryD] at h
    by_cases hn : (cL σ (100 + k3)).isSome = true
    · replace h := b1 (it_t hn h)
      obtain ⟨n, hL, h⟩ := h
      rw [rk_t hn]
      by_cases hbig : 2147483648 ≤ n
      · cases it_t hbig h
      · replace h := it_f hbig h
        by_cases ho : a2 < 0 ∨ n ≤ a2.toNatClampNeg
        · replace h := it_t ho h
          refine E_msg Γ Ξ hXT htr hRm xm_aio (by decide +kernel) (by decide) (tx_index a2 (by omega)) hrows (xh_aio Γ hXT (by decide) (by decide)) (thr_iald Γ Ξ (by have := (ixA_in e4).2.2; omega) hL ho (Nat.le_of_ble_eq_true rfl) dX0_lay_16) (fun ea => ?_)
          refine A_astore (G := gUp G eMc eMs) (lv' := [(4, .ref ea), (0, .ref (xo X)), (1, .int a1), (2, .int a2), (3, .int a3)]) Γ dX0_lay_44 (by decide) rfl ?_
          refine A_aload_n (G := gUp G eMc eMs) Γ dX0_lay_46 1 rfl ?_
          refine A_iconst (G := gUp G eMc eMs) (v := 2) Γ dX0_lay_47 (by decide) ?_
          refine kX0_X0found (G := gUp G eMc eMs) Γ Ξ hRU (by decide) (by decide) h (Nat.le_of_ble_eq_true rfl) dX0_lay_48 ?_
          exact hret _ _ dX0_lay_51
        · replace h := it_f ho h
          replace h := b1 h
          obtain ⟨v5, e6, h⟩ := h
          refine A_aldD Γ Ξ (kInt_row e4) rfl e6 dX0_lay_16 ?_
          refine A_istore (lv' := [(4, .int v5), (0, .ref (xo X)), (1, .int a1), (2, .int a2), (3, .int a3)]) Γ dX0_lay_17 (by decide) rfl ?_
          refine A_aload_n Γ dX0_lay_19 1 rfl ?_
          refine g0_5 Γ Ξ dX0_lay_20 ?_
          refine A_iload_n Γ dX0_lay_23 2 rfl ?_
          refine A_rows Γ Ξ e4 dX0_lay_24 ?_
          rw [rk_t hn]
          refine A_iload_n Γ dX0_lay_25 3 rfl ?_
          refine A_iload_n Γ dX0_lay_26 4 rfl ?_
          replace h := b1 h
          obtain ⟨σ9, e10, h⟩ := h
          refine A_astD Γ Ξ (kInt_row e4) rfl e10 dX0_lay_27 ?_
          refine A_aload_n Γ dX0_lay_28 1 rfl ?_
          refine A_iload Γ dX0_lay_29 0 rfl ?_
          refine A_iconst (v := 1) Γ dX0_lay_31 (by decide) ?_
          refine kX0_X0say (F := eF) (LO := eLo) Γ Ξ (hRm.rm (Nat.le_refl _) (Nat.le_refl _)) (by decide) (by decide) h (Nat.le_of_ble_eq_true rfl) dX0_lay_32 ?_
          exact A_up (k := eMc) (n := eMs) (by rw [hRm.2.1]; exact Nat.zero_le _) (by rw [hRm.2.2]; exact Nat.zero_le _) (hret _ _ dX0_lay_35)
    · replace h := it_f hn h
      rw [rk_f hn]
      refine E_npe Γ Ξ hXT htr hRm hrows (xh_npe Γ hXT (by decide) (by decide)) (thr_iald0 Γ (Nat.le_of_ble_eq_true rfl) dX0_lay_16) (fun ea => ?_)
      refine A_astore (G := gUp G eMc eMs) (lv' := [(4, .ref ea), (0, .ref (xo X)), (1, .int a1), (2, .int a2), (3, .int a3)]) Γ dX0_lay_36 (by decide) rfl ?_
      refine A_aload_n (G := gUp G eMc eMs) Γ dX0_lay_38 1 rfl ?_
      refine A_iconst (G := gUp G eMc eMs) (v := 1) Γ dX0_lay_39 (by decide) ?_
      refine kX0_X0found (G := gUp G eMc eMs) Γ Ξ hRU (by decide) (by decide) h (Nat.le_of_ble_eq_true rfl) dX0_lay_40 ?_
      exact hret _ _ dX0_lay_43
  · replace h := it_t c h
    refine A_iconst (v := (-1)) Γ dX0_lay_7 (by decide) ?_
    obtain ⟨rfl, rfl⟩ := inj2 h
    exact A_up (k := eMc) (n := eMs) (by rw [hRm.2.1]; exact Nat.zero_le _) (by rw [hRm.2.2]; exact Nat.zero_le _) (hret _ _ dX0_lay_8)
theorem mtX0_lay (l : Launch) (htr : l.stackTraces = false) (X : Xw) {σ σ' : St} {a1 : Int32} {a2 : Int32} {a3 : Int32} {r : Int32} (h : c_lay σ a1 a2 a3 = some (r, σ')) : MetE l X yX0_lay cX0_lay 5 (some .int) [(9, 35, 36, 189), (9, 35, 44, 191)] eF eLo eMc eMs [.ref (xo X), .int a1, .int a2, .int a3] σ (some (.int r)) σ' := MetE.of0 (by decide) (Nat.le_of_ble_eq_true rfl) (fun G hl Γ Ξ hXT hrows hR hret => wkX0_lay Γ Ξ hXT (by rw [hl]; exact htr) hrows hR h hret)

noncomputable def c_put (σ : St) (a1 : Int32) (a2 : Int32) (a3 : Int32) : Option (Int32 × St) :=
  B1 (c_isText a1) fun v2 =>
  if v2 = 0 then
    (some ((-1), σ))
  else
    (B1 (ixA 4 a1) fun k3 =>
    tryD σ (110 + k3) a2 (c_found σ 1) (c_found σ 2) fun n =>
    B1 (rdD σ (110 + k3) a2) fun v5 =>
    B1 (wrD σ (110 + k3) a2 (vp_nar .byte (a3.toInt8.toInt32))) fun σ9 =>
    some (1000 + v5, σ9))
set_option maxHeartbeats 4000000 in
set_option maxRecDepth 100000 in
theorem wkX0_put {G : Gx} {X : Xw} {σ σ' : St} {a1 : Int32} {a2 : Int32} {a3 : Int32} (Γ : Ok G RX0 cX0_put 5) (Ξ : OkX 0 G X) (hXT : XT X (gs G)) (htr : (gl G).stackTraces = false) (hrows : (gc G).exceptionTable.toList.map xc_row = [(9, 35, 36, 189), (9, 35, 44, 191)]) (hRm : RmE G eF eLo eMc eMs) {r : Int32} (h : c_put σ a1 a2 a3 = some (r, σ')) (hret : ∀ (pc : Nat) (lv : List (Nat × Value)), retIs cX0_put (some .int) (some (.int r)) pc → At (gUp G eMc eMs) 5 σ' lv [.int r] pc) : At G 5 σ [(0, .ref (xo X)), (1, .int a1), (2, .int a2), (3, .int a3)] [] 0 := by
  rw [c_put] at h
  have hRU : Rm (gUp G eMc eMs) eF eLo := hRm.rmU (Nat.le_refl _) (Nat.le_refl _)
  refine A_iload_n Γ dX0_put_0 1 rfl ?_
  replace h := b1 h
  obtain ⟨v2, e1, h⟩ := h
  refine kX0_X0isText (F := eF) (LO := eLo) Γ (kpX Ξ) (hRm.rm (Nat.le_refl _) (Nat.le_refl _)) (by decide) (by decide) e1 (Nat.le_of_ble_eq_true rfl) dX0_put_1 ?_
  refine A_if_ne (t := 9) Γ dX0_put_4 (by decide) (fun c => ?_) (fun c => ?_)
  · replace h := it_f c h
    refine A_aload_n Γ dX0_put_9 0 rfl ?_
    refine g0_6 Γ Ξ dX0_put_10 ?_
    refine A_iload_n Γ dX0_put_13 1 rfl ?_
    replace h := b1 h
    obtain ⟨k3, e4, h⟩ := h
    refine A_texts Γ Ξ e4 dX0_put_14 ?_
    refine A_iload_n Γ dX0_put_15 2 rfl ?_
    rw [tryD] at h
    by_cases hn : (cL σ (110 + k3)).isSome = true
    · replace h := b1 (it_t hn h)
      obtain ⟨n, hL, h⟩ := h
      rw [rk_t hn]
      by_cases hbig : 2147483648 ≤ n
      · cases it_t hbig h
      · replace h := it_f hbig h
        by_cases ho : a2 < 0 ∨ n ≤ a2.toNatClampNeg
        · replace h := it_t ho h
          refine E_msg Γ Ξ hXT htr hRm xm_aio (by decide +kernel) (by decide) (tx_index a2 (by omega)) hrows (xh_aio Γ hXT (by decide) (by decide)) (thr_bald Γ Ξ (by have := (ixA_in e4).2.2; omega) hL ho (Nat.le_of_ble_eq_true rfl) dX0_put_16) (fun ea => ?_)
          refine A_astore (G := gUp G eMc eMs) (lv' := [(4, .ref ea), (0, .ref (xo X)), (1, .int a1), (2, .int a2), (3, .int a3)]) Γ dX0_put_44 (by decide) rfl ?_
          refine A_aload_n (G := gUp G eMc eMs) Γ dX0_put_46 1 rfl ?_
          refine A_iconst (G := gUp G eMc eMs) (v := 2) Γ dX0_put_47 (by decide) ?_
          refine kX0_X0found (G := gUp G eMc eMs) Γ Ξ hRU (by decide) (by decide) h (Nat.le_of_ble_eq_true rfl) dX0_put_48 ?_
          exact hret _ _ dX0_put_51
        · replace h := it_f ho h
          replace h := b1 h
          obtain ⟨v5, e6, h⟩ := h
          refine A_baldD Γ Ξ (kByte_text e4) rfl e6 dX0_put_16 ?_
          refine A_istore (lv' := [(4, .int v5), (0, .ref (xo X)), (1, .int a1), (2, .int a2), (3, .int a3)]) Γ dX0_put_17 (by decide) rfl ?_
          refine A_aload_n Γ dX0_put_19 1 rfl ?_
          refine g0_6 Γ Ξ dX0_put_20 ?_
          refine A_iload_n Γ dX0_put_23 2 rfl ?_
          refine A_texts Γ Ξ e4 dX0_put_24 ?_
          rw [rk_t hn]
          refine A_iload_n Γ dX0_put_25 3 rfl ?_
          refine A_iload_n Γ dX0_put_26 4 rfl ?_
          replace h := b1 h
          obtain ⟨σ9, e10, h⟩ := h
          refine A_i2b Γ dX0_put_27 ?_
          refine A_bastD Γ Ξ (kByte_text e4) rfl e10 dX0_put_28 ?_
          refine A_sipush (v := 1000) Γ dX0_put_29 (by decide) ?_
          refine A_iload Γ dX0_put_32 0 rfl ?_
          refine A_iadd Γ dX0_put_34 ?_
          obtain ⟨rfl, rfl⟩ := inj2 h
          exact A_up (k := eMc) (n := eMs) (by rw [hRm.2.1]; exact Nat.zero_le _) (by rw [hRm.2.2]; exact Nat.zero_le _) (hret _ _ dX0_put_35)
    · replace h := it_f hn h
      rw [rk_f hn]
      refine E_npe Γ Ξ hXT htr hRm hrows (xh_npe Γ hXT (by decide) (by decide)) (thr_bald0 Γ (Nat.le_of_ble_eq_true rfl) dX0_put_16) (fun ea => ?_)
      refine A_astore (G := gUp G eMc eMs) (lv' := [(4, .ref ea), (0, .ref (xo X)), (1, .int a1), (2, .int a2), (3, .int a3)]) Γ dX0_put_36 (by decide) rfl ?_
      refine A_aload_n (G := gUp G eMc eMs) Γ dX0_put_38 1 rfl ?_
      refine A_iconst (G := gUp G eMc eMs) (v := 1) Γ dX0_put_39 (by decide) ?_
      refine kX0_X0found (G := gUp G eMc eMs) Γ Ξ hRU (by decide) (by decide) h (Nat.le_of_ble_eq_true rfl) dX0_put_40 ?_
      exact hret _ _ dX0_put_43
  · replace h := it_t c h
    refine A_iconst (v := (-1)) Γ dX0_put_7 (by decide) ?_
    obtain ⟨rfl, rfl⟩ := inj2 h
    exact A_up (k := eMc) (n := eMs) (by rw [hRm.2.1]; exact Nat.zero_le _) (by rw [hRm.2.2]; exact Nat.zero_le _) (hret _ _ dX0_put_8)
theorem mtX0_put (l : Launch) (htr : l.stackTraces = false) (X : Xw) {σ σ' : St} {a1 : Int32} {a2 : Int32} {a3 : Int32} {r : Int32} (h : c_put σ a1 a2 a3 = some (r, σ')) : MetE l X yX0_put cX0_put 5 (some .int) [(9, 35, 36, 189), (9, 35, 44, 191)] eF eLo eMc eMs [.ref (xo X), .int a1, .int a2, .int a3] σ (some (.int r)) σ' := MetE.of0 (by decide) (Nat.le_of_ble_eq_true rfl) (fun G hl Γ Ξ hXT hrows hR hret => wkX0_put Γ Ξ hXT (by rw [hl]; exact htr) hrows hR h hret)

noncomputable def c_mean_L6 (σ : St) (a1 : Int32) (x7 : Int64) (x8 : Int32) (x9 : Int32) : Option ((Int64 × Int32 × Int32) ⊕ (Int64 × Int32)) :=
  B1 (ixD σ 100 6 a1) fun k12 =>
  B1 (cL σ (100 + k12)) fun n14 =>
  if (nI n14) ≤ x9 then
    (some (Sum.inr (x7, x8)))
  else
    (B1 (ixD σ 100 6 a1) fun k16 =>
    B1 (rdD σ (100 + k16) x9) fun v18 =>
    B1 ((if v18 = (-999) then
        (some 0)
      else
        (some 1)) : Option (Int32)) fun x21 =>
    B1 ((if x21 = 0 then
        (some 0)
      else
        (B1 (ixD σ 100 6 a1) fun k24 =>
        B1 (rdD σ (100 + k24) x9) fun v26 =>
        some v26.toInt64)) : Option (Int64)) fun x23 =>
    B1 ((if x21 = 0 then
        (some 0)
      else
        (some 1)) : Option (Int32)) fun x29 =>
    some (Sum.inl (x7 + x23, x8 + x29, x9 + 1)))
noncomputable def c_mean (σ : St) (a1 : Int32) : Option (Int32 × St) :=
  B1 (c_isRow a1) fun v2 =>
  if v2 = 0 then
    (some ((-1), σ))
  else
    (B1 (ixA 6 a1) fun k3 =>
    if (cL σ (100 + k3)).isSome = true then
      (B2 (lq3 (c_mean_L6 σ a1) 0 0 0) fun x10 x11 =>
      if x11.toInt64 = 0 then c_found σ 4 else c_say σ ((x10 / x11.toInt64).toInt32) 1)
    else
      (B2 (c_found σ 1) fun v36 σ37 =>
      some (v36, σ37)))

set_option maxHeartbeats 4000000 in
set_option maxRecDepth 100000 in
theorem wkX0_mean {G : Gx} {X : Xw} {σ σ' : St} {a1 : Int32} (Γ : Ok G RX0 cX0_mean 7) (Ξ : OkX 0 G X) (hXT : XT X (gs G)) (htr : (gl G).stackTraces = false) (hrows : (gc G).exceptionTable.toList.map xc_row = [(109, 120, 121, 199)]) (hRE : RmE G eF eLo eMc eMs) {r : Int32} (h : c_mean σ a1 = some (r, σ')) (hret : ∀ (pc : Nat) (lv : List (Nat × Value)), retIs cX0_mean (some .int) (some (.int r)) pc → At (gUp G eMc eMs) 7 σ' lv [.int r] pc) : At G 7 σ [(0, .ref (xo X)), (1, .int a1)] [] 0 := by
  rw [c_mean] at h
  have hRU : Rm (gUp G eMc eMs) eF eLo := hRE.rmU (Nat.le_refl _) (Nat.le_refl _)
  have hRm : Rm G eF eLo := hRE.rm (Nat.le_refl _) (Nat.le_refl _)
  refine A_iload_n Γ dX0_mean_0 1 rfl ?_
  replace h := b1 h
  obtain ⟨v2, e1, h⟩ := h
  refine kX0_X0isRow Γ (kpX Ξ) hRm (by decide) (by decide) e1 (Nat.le_of_ble_eq_true rfl) dX0_mean_1 ?_
  refine A_if_ne (t := 9) Γ dX0_mean_4 (by decide) (fun c => ?_) (fun c => ?_)
  · replace h := it_f c h
    refine A_aload_n Γ dX0_mean_9 0 rfl ?_
    refine g0_5 Γ Ξ dX0_mean_10 ?_
    refine A_iload_n Γ dX0_mean_13 1 rfl ?_
    replace h := b1 h
    obtain ⟨k3, e4, h⟩ := h
    refine A_rows Γ Ξ e4 dX0_mean_14 ?_
    refine A_ifnonnull (t := 24) Γ dX0_mean_15 (by decide) (fun cn5 => ?_) (fun cn5 => ?_)
    · replace h := it_t cn5 h
      refine A_lconst (v := 0) Γ dX0_mean_24 (by decide) ?_
      refine A_lstore_n (lv' := [(2, .long 0), (0, .ref (xo X)), (1, .int a1)]) Γ dX0_mean_25 (by decide) rfl ?_
      refine A_iconst (v := 0) Γ dX0_mean_26 (by decide) ?_
      refine A_istore (lv' := [(4, .int 0), (2, .long 0), (0, .ref (xo X)), (1, .int a1)]) Γ dX0_mean_27 (by decide) rfl ?_
      refine A_iconst (v := 0) Γ dX0_mean_29 (by decide) ?_
      refine A_istore (lv' := [(5, .int 0), (4, .int 0), (2, .long 0), (0, .ref (xo X)), (1, .int a1)]) Γ dX0_mean_30 (by decide) rfl ?_
      replace h := b2 h
      obtain ⟨x10, x11, eLL6, h⟩ := h
      have hXL6 : At G 7 σ [(0, .ref (xo X)), (2, .long x10), (4, .int x11)] [] 109 := by
        refine A_aload_n Γ dX0_mean_109 0 rfl ?_
        refine A_lload_n Γ dX0_mean_110 1 rfl ?_
        refine A_iload Γ dX0_mean_111 2 rfl ?_
        refine A_i2l Γ dX0_mean_113 ?_
        by_cases hz : x11.toInt64 = 0
        · replace h := it_t hz h
          rw [hz]
          refine E_msg Γ Ξ hXT htr hRE xm_ari (by decide +kernel) (by decide) tx_zero hrows (xh_ari Γ hXT (by decide) (by decide)) (thr_ldiv Γ (Nat.le_of_ble_eq_true rfl) dX0_mean_114) (fun ea => ?_)
          refine A_astore (G := gUp G eMc eMs) (lv' := [(5, .ref ea), (0, .ref (xo X)), (2, .long x10), (4, .int x11)]) Γ dX0_mean_121 (by decide) rfl ?_
          refine A_aload_n (G := gUp G eMc eMs) Γ dX0_mean_123 1 rfl ?_
          refine A_iconst (G := gUp G eMc eMs) (v := 4) Γ dX0_mean_124 (by decide) ?_
          refine kX0_X0found (G := gUp G eMc eMs) Γ Ξ hRU (by decide) (by decide) h (Nat.le_of_ble_eq_true rfl) dX0_mean_125 ?_
          exact hret _ _ dX0_mean_128
        · replace h := it_f hz h
          refine A_ldiv Γ dX0_mean_114 hz ?_
          refine A_l2i Γ dX0_mean_115 ?_
          refine A_iconst (v := 1) Γ dX0_mean_116 (by decide) ?_
          refine kX0_X0say Γ Ξ hRm (by decide) (by decide) h (Nat.le_of_ble_eq_true rfl) dX0_mean_117 ?_
          exact A_up (k := eMc) (n := eMs) (by rw [hRE.2.1]; exact Nat.zero_le _) (by rw [hRE.2.2]; exact Nat.zero_le _) (hret _ _ dX0_mean_120)
      replace eLL6 := lq3_ex eLL6
      obtain ⟨nL6, eLL6⟩ := eLL6
      have hLL6 : ∀ (nL6 : Nat) (x7 : Int64) (x8 : Int32) (x9 : Int32), lpf3 (c_mean_L6 σ a1) nL6 x7 x8 x9 = some (x10, x11) → At G 7 σ [(0, .ref (xo X)), (1, .int a1), (2, .long x7), (4, .int x8), (5, .int x9)] [] 32 := by
        intro nL6
        induction nL6 with
        | zero => intro x7 x8 x9 eL6; exact (lpf3_0 eL6).elim
        | succ nL6 ihL6 =>
          intro x7 x8 x9 eL6
          replace eL6 := lpf3_s eL6
          obtain ⟨qL6, eL6, hqL6⟩ := eL6
          rw [c_mean_L6] at eL6
          refine A_iload Γ dX0_mean_32 4 rfl ?_
          refine A_aload_n Γ dX0_mean_34 0 rfl ?_
          refine g0_5 Γ Ξ dX0_mean_35 ?_
          refine A_iload_n Γ dX0_mean_38 1 rfl ?_
          replace eL6 := b1 eL6
          obtain ⟨k12, e13, eL6⟩ := eL6
          refine A_rowsD Γ Ξ e13 dX0_mean_39 ?_
          replace eL6 := b1 eL6
          obtain ⟨n14, e15, eL6⟩ := eL6
          refine A_alenD Γ Ξ (Or.inl (kInt_rowD e13)) rfl e15 dX0_mean_40 ?_
          refine A_icmp_ge (t := 109) Γ dX0_mean_41 (by decide) (fun c => ?_) (fun c => ?_)
          · replace eL6 := it_t c eL6
            obtain ⟨rfl, rfl⟩ := pr2 (lpx3 eL6 hqL6)
            exact A_sub [0, 2, 3] rfl hXL6
          · replace eL6 := it_f c eL6
            refine A_aload_n Γ dX0_mean_44 0 rfl ?_
            refine g0_5 Γ Ξ dX0_mean_45 ?_
            refine A_iload_n Γ dX0_mean_48 1 rfl ?_
            replace eL6 := b1 eL6
            obtain ⟨k16, e17, eL6⟩ := eL6
            refine A_rowsD Γ Ξ e17 dX0_mean_49 ?_
            refine A_iload Γ dX0_mean_50 4 rfl ?_
            replace eL6 := b1 eL6
            obtain ⟨v18, e19, eL6⟩ := eL6
            refine A_aldD Γ Ξ (kInt_rowD e17) rfl e19 dX0_mean_52 ?_
            refine A_sipush (v := (-999)) Γ dX0_mean_53 (by decide) ?_
            replace eL6 := b1 eL6
            obtain ⟨x21, eJ20, eL6⟩ := eL6
            have hJJ20 : At G 7 σ [(0, .ref (xo X)), (1, .int a1), (2, .long x7), (4, .int x8), (5, .int x9)] [.int x21] 64 := by
              refine A_istore (lv' := [(6, .int x21), (0, .ref (xo X)), (1, .int a1), (2, .long x7), (4, .int x8), (5, .int x9)]) Γ dX0_mean_64 (by decide) rfl ?_
              refine A_lload_n Γ dX0_mean_66 3 rfl ?_
              refine A_iload Γ dX0_mean_67 0 rfl ?_
              replace eL6 := b1 eL6
              obtain ⟨x23, eJ22, eL6⟩ := eL6
              have hJJ22 : At G 7 σ [(0, .ref (xo X)), (1, .int a1), (4, .int x8), (5, .int x9), (6, .int x21)] [.long x23, .long x7] 86 := by
                refine A_ladd Γ dX0_mean_86 ?_
                refine A_lstore_n (lv' := [(2, .long (x7 + x23)), (0, .ref (xo X)), (1, .int a1), (4, .int x8), (5, .int x9), (6, .int x21)]) Γ dX0_mean_87 (by decide) rfl ?_
                refine A_iload Γ dX0_mean_88 3 rfl ?_
                refine A_iload Γ dX0_mean_90 5 rfl ?_
                replace eL6 := b1 eL6
                obtain ⟨x29, eJ28, eL6⟩ := eL6
                have hJJ28 : At G 7 σ [(0, .ref (xo X)), (1, .int a1), (2, .long (x7 + x23)), (5, .int x9)] [.int x29, .int x8] 100 := by
                  refine A_iadd Γ dX0_mean_100 ?_
                  refine A_istore (lv' := [(4, .int (x8 + x29)), (0, .ref (xo X)), (1, .int a1), (2, .long (x7 + x23)), (5, .int x9)]) Γ dX0_mean_101 (by decide) rfl ?_
                  refine A_iinc (v := x9 + 1) (lv' := [(5, .int (x9 + 1)), (4, .int (x8 + x29)), (0, .ref (xo X)), (1, .int a1), (2, .long (x7 + x23))]) Γ dX0_mean_103 4 rfl rfl (by decide) rfl ?_
                  refine A_goto (t := 32) Γ dX0_mean_106 (by decide) ?_
                  exact A_sub [2, 3, 4, 1, 0] rfl (ihL6 _ _ _ (lpc3 eL6 hqL6))
                refine A_if_eq (t := 99) Γ dX0_mean_92 (by decide) (fun c => ?_) (fun c => ?_)
                · replace eJ28 := it_t c eJ28
                  refine A_iconst (v := 0) Γ dX0_mean_99 (by decide) ?_
                  obtain rfl := inj1 eJ28
                  exact A_sub [1, 2, 0, 4] rfl hJJ28
                · replace eJ28 := it_f c eJ28
                  refine A_iconst (v := 1) Γ dX0_mean_95 (by decide) ?_
                  refine A_goto (t := 100) Γ dX0_mean_96 (by decide) ?_
                  obtain rfl := inj1 eJ28
                  exact A_sub [1, 2, 0, 4] rfl hJJ28
              refine A_if_eq (t := 85) Γ dX0_mean_69 (by decide) (fun c => ?_) (fun c => ?_)
              · replace eJ22 := it_t c eJ22
                refine A_lconst (v := 0) Γ dX0_mean_85 (by decide) ?_
                obtain rfl := inj1 eJ22
                exact A_sub [1, 2, 4, 5, 0] rfl hJJ22
              · replace eJ22 := it_f c eJ22
                refine A_aload_n Γ dX0_mean_72 1 rfl ?_
                refine g0_5 Γ Ξ dX0_mean_73 ?_
                refine A_iload_n Γ dX0_mean_76 2 rfl ?_
                replace eJ22 := b1 eJ22
                obtain ⟨k24, e25, eJ22⟩ := eJ22
                refine A_rowsD Γ Ξ e25 dX0_mean_77 ?_
                refine A_iload Γ dX0_mean_78 5 rfl ?_
                replace eJ22 := b1 eJ22
                obtain ⟨v26, e27, eJ22⟩ := eJ22
                refine A_aldD Γ Ξ (kInt_rowD e25) rfl e27 dX0_mean_80 ?_
                refine A_i2l Γ dX0_mean_81 ?_
                refine A_goto (t := 86) Γ dX0_mean_82 (by decide) ?_
                obtain rfl := inj1 eJ22
                exact A_sub [1, 2, 4, 5, 0] rfl hJJ22
            refine A_icmp_eq (t := 63) Γ dX0_mean_56 (by decide) (fun c => ?_) (fun c => ?_)
            · replace eJ20 := it_t c eJ20
              refine A_iconst (v := 0) Γ dX0_mean_63 (by decide) ?_
              obtain rfl := inj1 eJ20
              exact A_sub [0, 1, 2, 3, 4] rfl hJJ20
            · replace eJ20 := it_f c eJ20
              refine A_iconst (v := 1) Γ dX0_mean_59 (by decide) ?_
              refine A_goto (t := 64) Γ dX0_mean_60 (by decide) ?_
              obtain rfl := inj1 eJ20
              exact A_sub [0, 1, 2, 3, 4] rfl hJJ20
      exact A_sub [3, 4, 2, 1, 0] rfl (hLL6 _ _ _ _ eLL6)
    · replace h := it_f cn5 h
      refine A_aload_n Γ dX0_mean_18 0 rfl ?_
      refine A_iconst (v := 1) Γ dX0_mean_19 (by decide) ?_
      replace h := b2 h
      obtain ⟨v36, σ37, e35, h⟩ := h
      refine kX0_X0found Γ Ξ hRm (by decide) (by decide) e35 (Nat.le_of_ble_eq_true rfl) dX0_mean_20 ?_
      obtain ⟨rfl, rfl⟩ := inj2 h
      exact A_up (k := eMc) (n := eMs) (by rw [hRE.2.1]; exact Nat.zero_le _) (by rw [hRE.2.2]; exact Nat.zero_le _) (hret _ _ dX0_mean_23)
  · replace h := it_t c h
    refine A_iconst (v := (-1)) Γ dX0_mean_7 (by decide) ?_
    obtain ⟨rfl, rfl⟩ := inj2 h
    exact A_up (k := eMc) (n := eMs) (by rw [hRE.2.1]; exact Nat.zero_le _) (by rw [hRE.2.2]; exact Nat.zero_le _) (hret _ _ dX0_mean_8)
theorem mtX0_mean (l : Launch) (htr : l.stackTraces = false) (X : Xw) {σ σ' : St} {a1 : Int32} {r : Int32} (h : c_mean σ a1 = some (r, σ')) : MetE l X yX0_mean cX0_mean 7 (some .int) [(109, 120, 121, 199)] eF eLo eMc eMs [.ref (xo X), .int a1] σ (some (.int r)) σ' := MetE.of0 (by decide) (Nat.le_of_ble_eq_true rfl) (fun G hl Γ Ξ hXT hrows hR hret => wkX0_mean Γ Ξ hXT (by rw [hl]; exact htr) hrows hR h hret)

