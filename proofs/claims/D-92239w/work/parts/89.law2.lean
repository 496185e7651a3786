/-! the law: both worlds side by side -/
def ownQ (z : Nat) (X : Xw) (σ : St) (q : Nat) : Prop := q = xo X ∨ ∃ k, live z σ k ∧ q = xad X k
abbrev xRg (X : Xw) (R : Nat → Prop) : Xw := (xo X, xad X, xC X, xI X, xA X, R)
section Two
variable {z : Nat} {X X0 X1 : Xw} {σ σ' τ τ' : St} {H H' : Heap} {R' : Nat → Prop} {ad : Nat → Nat}
theorem Pic.rg (h : Pic z X σ H) (hR : ∀ q, ownQ z X σ q → R' q) : Pic z (xRg X R') σ H := by
  obtain ⟨h1, h2, h3, h4, h5, h6⟩ := h
  exact ⟨h1, h2, h3, h4, fun k hk => ⟨hR _ (Or.inr ⟨k, hk, rfl⟩), (h5 k hk).2⟩, hR _ (Or.inl rfl)⟩
theorem Pic.ow (h : Pic z X σ H) {q : Nat} (hq : ownQ z X σ q) : xR X q ∧ q < H.size := by
  rcases hq with rfl | ⟨k, hk, rfl⟩
  · exact ⟨h.2.2.2.2.2, h.lto⟩
  · exact ⟨(h.2.2.2.2.1 k hk).1, h.lt hk⟩
theorem cellZ_vm (X : Xw) (σ : St) (k : Nat) : (cellZ z X σ k).vm = .none := by
  unfold cellZ
  split <;> rfl
theorem Pic.nost (h : Pic z X σ H) {q : Nat} (hq : ownQ z X σ q) {cell : Cell} (hc : H[q]? = some cell) : cell.vm.isStatics = false := by
  have key : cell.vm = .none := by
    rcases hq with rfl | ⟨k, hk, rfl⟩
    · obtain ⟨⟨c', g1, -, g3, -⟩, -⟩ := h
      cases hc.symm.trans g1
      exact g3
    · rcases hk with ⟨a, b⟩ | ⟨a, b, c⟩
      · cases hc.symm.trans (h.2.1 k a b)
        exact cellZ_vm X σ k
      · cases hn : cL σ k with
        | none => rw [hn] at c; cases c
        | some n =>
          obtain ⟨e1, e2, e3⟩ := h.2.2.1 a k n b hn
          by_cases q1 : k < 110 ∨ 140 ≤ k
          · cases hc.symm.trans (e1 q1)
            rfl
          · by_cases q2 : k < 120
            · cases hc.symm.trans (e2 (by omega) q2)
              rfl
            · obtain ⟨-, c', g1, -, g3, -⟩ := e3 (by omega) (by omega)
              cases hc.symm.trans g1
              exact g3
  rw [key]
  rfl
def LwP (X0 X1 : Xw) (τ σ : St) (H : Heap) : Prop := Pic 0 X0 σ H ∧ Pic 1 X1 τ H ∧ ∀ q, ownQ 0 X0 σ q → ¬ ownQ 1 X1 τ q
theorem LwP.cls (h : LwP X0 X1 τ σ H) (hF : ∀ q : Nat, q < H.size → ¬ R' q → H'[q]? = H[q]?) (hR' : ∀ q, R' q → ownQ 0 X0 σ q ∨ H.size ≤ q) (hP' : Pic 0 (xUp (xRg X0 R') ad) σ' H') (hA : ∀ q, H.size ≤ q → xR X0 q) : LwP (xUp X0 ad) X1 τ σ' H' := by
  obtain ⟨h1, h2, h3⟩ := h
  have ho : ∀ q, ownQ 0 (xUp X0 ad) σ' q → R' q := fun q hq => (Pic.ow (X := xUp (xRg X0 R') ad) hP' (show ownQ 0 (xUp (xRg X0 R') ad) σ' q from hq)).1
  have hno : ∀ q, ownQ 1 X1 τ q → ¬ R' q := fun q hq hr => by
    rcases hR' q hr with g | g
    · exact h3 q g hq
    · have := (h2.ow hq).2; omega
  refine ⟨?_, h2.keptL (hF _ (h2.ow (Or.inl rfl)).2 (hno _ (Or.inl rfl))) (fun k hk => hF _ (h2.ow (Or.inr ⟨k, hk, rfl⟩)).2 (hno _ (Or.inr ⟨k, hk, rfl⟩))), fun q hq hq1 => hno q hq1 (ho q hq)⟩
  have := Pic.rg (R' := xR X0) hP' (fun q hq => by
    rcases hR' q (ho q hq) with g | g
    · exact (h1.ow g).1
    · exact hA q g)
  exact this
theorem LwP.mdl (h : LwP X0 X1 τ σ H) (hF : ∀ q : Nat, q < H.size → ¬ ownQ 1 X1 τ q → H'[q]? = H[q]?) (hP' : Pic 1 (xRg X1 (ownQ 1 X1 τ)) τ' H') : LwP X0 X1 τ' σ H' := by
  obtain ⟨h1, h2, h3⟩ := h
  have ho : ∀ q, ownQ 1 X1 τ' q → ownQ 1 X1 τ q := fun q hq => (Pic.ow (X := xRg X1 (ownQ 1 X1 τ)) hP' (show ownQ 1 (xRg X1 (ownQ 1 X1 τ)) τ' q from hq)).1
  refine ⟨h1.keptL (hF _ (h1.ow (Or.inl rfl)).2 (h3 _ (Or.inl rfl))) (fun k hk => hF _ (h1.ow (Or.inr ⟨k, hk, rfl⟩)).2 (h3 _ (Or.inr ⟨k, hk, rfl⟩))), ?_, fun q hq hq1 => h3 q hq (ho q hq1)⟩
  have := Pic.rg (R' := xR X1) hP' (fun q hq => (h2.ow (ho q hq)).1)
  exact this
end Two
abbrev rA (G : Gx) : Nat → Prop := fun q => (gs G).heap.size ≤ q
def LK (G : Gx) (X0 X1 : Xw) : Prop := KX X0 (gs G) ∧ KX X1 (gs G) ∧ XK (gs G) ∧ XL X0 (gs G) ∧ XW (gs G) ∧ gA G = rA G ∧ xR X0 = rA G ∧ xR X1 = rA G ∧ gR G = room_1 ∧ (gl G).stackTraces = false
section LCalls
variable {G : Gx} {own0 : String} {cc : ByteArray} {nL pc : Nat} {σ σ' τ τ' : St} {lv : List (Nat × Value)} {st0 st : List Value} {X0 X1 : Xw} {k n : Nat}
theorem LK.up (Λ : LK G X0 X1) (ad : Nat → Nat) : LK G (xUp X0 ad) X1 := Λ
theorem L_recv {z : Nat} {X : Xw} {σ : St} {H : Heap} (hK : KX X (gs G)) (hc : vwCl[z]? = some (RZ z, TZ z, NZ z)) (hP : Pic z X σ H) : ∃ cellB : Cell, H[xo X]? = some cellB ∧ cellB.vm.isStatics = false ∧ (gs G).vm.findClass (RZ z) = some cellB.cls := by
  obtain ⟨⟨cell, q1, q2, q3, -⟩, -⟩ := hP
  exact ⟨cell, q1, by rw [q3]; rfl, by rw [q2]; exact (hK.1 z _ hc).2.1⟩
/-- the class' method that makes nothing -/
theorem L_call0 (Γ : Ok G own0 cc nL) (Λ : LK G X0 X1) {y : MethodName} {bytes : ByteArray} {maxL f lo index nn : Nat} {ret : Option FieldType} {As : List Value} {rv : Option Value} (hM : ∀ X : Xw, MetZ 0 (gl G) X y bytes maxL ret f lo (.ref (xo X) :: As) σ rv σ')
    (hG : GoodIn lw_all (wsV own0 index (RZ 0) y (ws_ y bytes maxL ret))) (hd : y.cls = RZ 0 ∧ y.cls ≠ "java/lang/invoke/MethodHandle" ∧ y.cls ≠ "java/lang/invoke/VarHandle" ∧ (parseMethodDescriptor y.desc).map (fun d => d.parameters.length) = some nn) (hR : f + 1 ≤ 2048 ∧ 8 + (maxL + 11) + lo ≤ 94400) (hkk : k ≤ 603072 ∧ n ≤ 7262314)
    (hn : As.length = nn) (hst : st0 = As.reverse ++ .ref (xo X0) :: st) (hW : (st.map fun v => v.category).sum ≤ 8) (d : decode cc pc = .ok (.invokevirtual index, 3)) (kk : At (gX G k n (LwP X0 X1 τ)) nL σ' lv (rv.toList ++ st) (pc + 3)) : At (gX G k n (LwP X0 X1 τ)) nL σ lv st0 pc := by
  intro H locs ls hS hP hl T hT Xs
  obtain ⟨hK0, hK1, hXK, hXL, hXW, hgA, hx0, hx1, hgR, -⟩ := Λ
  have hP0 : LwP X0 X1 τ σ H := hP
  have cw : CallW (gR G) (gs G) (gar G) own0 (RZ 0) index y bytes maxL ret (ws_ y bytes maxL ret) (rmF f lo) 0 0 nn := cwV nn Γ.2.2.2.2 hG rfl rfl rfl hd (by rw [hgR]; exact hR)
  have hp : PreV (gs G) H (RZ 0) (xo X0) (va_Pc (.ref (xo X0) :: As) (fun U => Pic 0 (xRg X0 (ownQ 0 X0 σ)) σ U.heap ∧ KX X0 U ∧ XK U)) As := ⟨fun a U g mk q => ⟨q.1, q.2.1, KX.moved (u := U) (U := U.calling g mk a) (Vm.Alike.refl U.vm) q.2.2.1, XK.same (u := U) (U := U.calling g mk a) rfl q.2.2.2⟩, L_recv hK0 rfl hP0.1, fun U hU hW => ⟨rfl, by rw [hU]; exact hP0.1.rg (fun q hq => hq), KX.moved hW.alike hK0, XK.warm hW hXK⟩⟩
  obtain ⟨v, st₀, t, T', L, h0, X', hL, e1, e2, ⟨hv, hP1, hz, hk⟩, stp⟩ := va_runV (rest := st) Γ (hM (xRg X0 (ownQ 0 X0 σ))) cw hp (g := F0 (gm G) pc ls st0) rfl hn hl.1 hst (lv_room (rest := st0) (ls := ls) (pc := pc) (m := gm G) hW) d ⟨by rw [hgR]; exact hkk.1, by rw [hgR]; exact hkk.2⟩ T hT Xs
  cases hv
  rw [h0] at hz hk
  have hin : ∀ q, ownQ 0 X0 σ q → rA G q := fun q hq => by have := (hP0.1.ow hq).1; rw [hx0] at this; exact this
  obtain ⟨t2, a1, b1⟩ := kk T'.heap (locs ++ L) ls ⟨Nat.le_trans hS.1 (by rw [e1]; exact hz), fun q g1 g2 => by rw [e1, hk q (Nat.lt_of_lt_of_le g1 hS.1) (fun w => g2 (by show gA G q; rw [hgA]; exact hin q w))]; exact hS.2.1 q g1 g2, fun q hq => by
      rcases List.mem_append.mp hq with h | h
      · exact hS.2.2 q h
      · show gA G _; rw [hgA]; exact hin _ (hL q h)⟩ (by
      show LwP X0 X1 τ σ' T'.heap
      rw [e1]
      exact LwP.cls (ad := xad X0) (R' := ownQ 0 X0 σ) hP0 hk (fun q hq => Or.inl hq) hP1 (fun q hq => by rw [hx0]; exact Nat.le_trans hS.1 hq)) hl T' rfl X'
  exact ⟨t2, stp t2 a1, b1⟩
/-- the reference's method -/
theorem L_call1 (Γ : Ok G own0 cc nL) (Λ : LK G X0 X1) {y : MethodName} {bytes : ByteArray} {maxL f lo index nn : Nat} {ret : Option FieldType} {As : List Value} {rv : Option Value} (hM : ∀ X : Xw, MetZ 1 (gl G) X y bytes maxL ret f lo (.ref (xo X) :: As) τ rv τ')
    (hG : GoodIn lw_all (wsV own0 index (RZ 1) y (ws_ y bytes maxL ret))) (hd : y.cls = RZ 1 ∧ y.cls ≠ "java/lang/invoke/MethodHandle" ∧ y.cls ≠ "java/lang/invoke/VarHandle" ∧ (parseMethodDescriptor y.desc).map (fun d => d.parameters.length) = some nn) (hR : f + 1 ≤ 2048 ∧ 8 + (maxL + 11) + lo ≤ 94400) (hkk : k ≤ 603072 ∧ n ≤ 7262314)
    (hn : As.length = nn) (hst : st0 = As.reverse ++ .ref (xo X1) :: st) (hW : (st.map fun v => v.category).sum ≤ 8) (d : decode cc pc = .ok (.invokevirtual index, 3)) (kk : At (gX G k n (LwP X0 X1 τ')) nL σ lv (rv.toList ++ st) (pc + 3)) : At (gX G k n (LwP X0 X1 τ)) nL σ lv st0 pc := by
  intro H locs ls hS hP hl T hT Xs
  obtain ⟨hK0, hK1, hXK, hXL, hXW, hgA, hx0, hx1, hgR, -⟩ := Λ
  have hP0 : LwP X0 X1 τ σ H := hP
  have cw : CallW (gR G) (gs G) (gar G) own0 (RZ 1) index y bytes maxL ret (ws_ y bytes maxL ret) (rmF f lo) 0 0 nn := cwV nn Γ.2.2.2.2 hG rfl rfl rfl hd (by rw [hgR]; exact hR)
  have hp : PreV (gs G) H (RZ 1) (xo X1) (va_Pc (.ref (xo X1) :: As) (fun U => Pic 1 (xRg X1 (ownQ 1 X1 τ)) τ U.heap ∧ KX X1 U ∧ XK U)) As := ⟨fun a U g mk q => ⟨q.1, q.2.1, KX.moved (u := U) (U := U.calling g mk a) (Vm.Alike.refl U.vm) q.2.2.1, XK.same (u := U) (U := U.calling g mk a) rfl q.2.2.2⟩, L_recv hK1 rfl hP0.2.1, fun U hU hW => ⟨rfl, by rw [hU]; exact hP0.2.1.rg (fun q hq => hq), KX.moved hW.alike hK1, XK.warm hW hXK⟩⟩
  obtain ⟨v, st₀, t, T', L, h0, X', hL, e1, e2, ⟨hv, hP1, hz, hk⟩, stp⟩ := va_runV (rest := st) Γ (hM (xRg X1 (ownQ 1 X1 τ))) cw hp (g := F0 (gm G) pc ls st0) rfl hn hl.1 hst (lv_room (rest := st0) (ls := ls) (pc := pc) (m := gm G) hW) d ⟨by rw [hgR]; exact hkk.1, by rw [hgR]; exact hkk.2⟩ T hT Xs
  cases hv
  rw [h0] at hz hk
  have hin : ∀ q, ownQ 1 X1 τ q → rA G q := fun q hq => by have := (hP0.2.1.ow hq).1; rw [hx1] at this; exact this
  obtain ⟨t2, a1, b1⟩ := kk T'.heap (locs ++ L) ls ⟨Nat.le_trans hS.1 (by rw [e1]; exact hz), fun q g1 g2 => by rw [e1, hk q (Nat.lt_of_lt_of_le g1 hS.1) (fun w => g2 (by show gA G q; rw [hgA]; exact hin q w))]; exact hS.2.1 q g1 g2, fun q hq => by
      rcases List.mem_append.mp hq with h | h
      · exact hS.2.2 q h
      · show gA G _; rw [hgA]; exact hin _ (hL q h)⟩ (by
      show LwP X0 X1 τ' σ T'.heap
      rw [e1]
      exact LwP.mdl hP0 hk hP1) hl T' rfl X'
  exact ⟨t2, stp t2 a1, b1⟩
/-- the region of a method that makes: what is the class' own, and all that is new -/
def oN (X0 : Xw) (σ : St) (H : Heap) (q : Nat) : Prop := ownQ 0 X0 σ q ∨ H.size ≤ q
theorem L_after (Λ : LK G X0 X1) {H : Heap} {locs L : List Loc} {ls : Array Slot} {T' t st₀ : State} {c1 s1 : Nat} {rv : Option Value} {st : List Value} (hS : va_S (rA G) (gs G).heap H locs) (hP0 : LwP X0 X1 τ σ H) (hl : lv_has ls nL lv) (h0 : st₀.heap = H) (X' : Stand (gp G) (gl G) (ge G) (gR G) (gs G) (gm G) (gar G) (gbe G) (gme G) (gc G) T' (locs ++ L) c1 s1) (hL : ∀ q ∈ L, oN X0 σ H q.base) (e1 : T'.heap = t.heap) (hP1 : ∃ ad, Pic 0 (xUp (xRg X0 (oN X0 σ H)) ad) σ' t.heap) (hF : va_F (oN X0 σ H) st₀ t)
    (kk : ∀ ad : Nat → Nat, At (gX G c1 s1 (LwP (xUp X0 ad) X1 τ)) nL σ' lv (rv.toList ++ st) (pc + 3)) : ∃ t2, Steps (gp G).tables (ge G) (gbe G) (T'.setTop (F0 (gm G) (pc + 3) ls (rv.toList ++ st))) t2 ∧ gQ G t2 := by
  obtain ⟨hK0, hK1, hXK, hXL, hXW, hgA, hx0, hx1, hgR, -⟩ := Λ
  obtain ⟨ad, hP1⟩ := hP1
  obtain ⟨hz, hk⟩ := hF
  rw [h0] at hz hk
  have hin : ∀ q, oN X0 σ H q → rA G q := fun q hq => by
    rcases hq with g | g
    · have := (hP0.1.ow g).1; rw [hx0] at this; exact this
    · exact Nat.le_trans hS.1 g
  exact kk ad T'.heap (locs ++ L) ls ⟨Nat.le_trans hS.1 (by rw [e1]; exact hz), fun q g1 g2 => by rw [e1, hk q (Nat.lt_of_lt_of_le g1 hS.1) (fun w => g2 (by show gA G q; rw [hgA]; exact hin q w))]; exact hS.2.1 q g1 (fun w => g2 (by show gA G q; rw [hgA]; exact w)), fun q hq => by
      show gA G _
      rw [hgA]
      rcases List.mem_append.mp hq with h | h
      · exact hS.2.2 q h
      · exact hin _ (hL q h)⟩ (by
      show LwP (xUp X0 ad) X1 τ σ' T'.heap
      rw [e1]
      exact LwP.cls (R' := oN X0 σ H) hP0 hk (fun q hq => hq) hP1 (fun q hq => by rw [hx0]; exact Nat.le_trans hS.1 hq)) hl T' rfl X'
/-- the class' method that throws and catches -/
theorem L_callE (Γ : Ok G own0 cc nL) (Λ : LK G X0 X1) {y : MethodName} {bytes : ByteArray} {maxL index nn : Nat} {ret : Option FieldType} {hh : List (Nat × Nat × Nat × Nat)} {As : List Value} {rv : Option Value} (hM : ∀ X : Xw, MetE (gl G) X y bytes maxL ret hh eF eLo eMc eMs (.ref (xo X) :: As) σ rv σ')
    (hG : GoodIn lw_all (wsV own0 index (RZ 0) y (wsW_ y bytes maxL ret hh))) (hd : y.cls = RZ 0 ∧ y.cls ≠ "java/lang/invoke/MethodHandle" ∧ y.cls ≠ "java/lang/invoke/VarHandle" ∧ (parseMethodDescriptor y.desc).map (fun d => d.parameters.length) = some nn) (hR : 8 + (maxL + 11) + eLo ≤ 94400) (hkk : k + 3 ≤ 603072 ∧ n + 2010 ≤ 7262314)
    (hn : As.length = nn) (hst : st0 = As.reverse ++ .ref (xo X0) :: st) (hW : (st.map fun v => v.category).sum ≤ 8) (d : decode cc pc = .ok (.invokevirtual index, 3)) (kk : ∀ ad : Nat → Nat, At (gX G (k + 3) (n + 2010) (LwP (xUp X0 ad) X1 τ)) nL σ' lv (rv.toList ++ st) (pc + 3)) : At (gX G k n (LwP X0 X1 τ)) nL σ lv st0 pc := by
  intro H locs ls hS hP hl T hT Xs
  have Λ0 := Λ
  obtain ⟨hK0, hK1, hXK, hXL, hXW, hgA, hx0, hx1, hgR, -⟩ := Λ
  have hS0 : va_S (rA G) (gs G).heap H locs := by rw [← hgA]; exact hS
  have hP0 : LwP X0 X1 τ σ H := hP
  have hp : PreV (gs G) H (RZ 0) (xo X0) (va_Pc (.ref (xo X0) :: As) (fun U => Pic 0 (xRg X0 (oN X0 σ H)) σ U.heap ∧ KX X0 U ∧ XK U ∧ XT (xRg X0 (oN X0 σ H)) U)) As := ⟨fun a U g mk q => ⟨q.1, q.2.1, KX.moved (u := U) (U := U.calling g mk a) (Vm.Alike.refl U.vm) q.2.2.1, XK.same (u := U) (U := U.calling g mk a) rfl q.2.2.2.1, XT.blind q.2.2.2.2 g mk a⟩, L_recv hK0 rfl hP0.1, fun U hU hW => ⟨rfl, by rw [hU]; exact hP0.1.rg (fun q hq => Or.inl hq), KX.moved hW.alike hK0, XK.warm hW hXK, XL.xt (X := xRg X0 (oN X0 σ H)) hXL hW (fun q hq => by rw [hU]; exact hS0.2.1 q hq (fun w => by have : (gs G).heap.size ≤ q := w; omega)) (fun q cell hc hs hr => by
      rw [hU] at hc
      rcases hr with g | g
      · have := hP0.1.nost g hc
        rw [hs] at this
        cases this
      · have := (Array.getElem?_eq_some_iff.mp hc).1; omega) (fun q hq => Or.inr (by rw [hU] at hq; exact hq))⟩⟩
  obtain ⟨v, st₀, t, T', L, h0, X', hL, e1, e2, ⟨hv, hP1, hF⟩, stp⟩ := vr_runVW (C := RZ 0) (rm := rmE eF eLo eMc eMs) (mc := 3) (ms := 2010) (hh := hh) (bytes := bytes) (maxL := maxL) (ret := ret) (rest := st) Γ (hM (xRg X0 (oN X0 σ H))) hG (List.mem_cons_self ..) rfl rfl hd (by rw [hgR]; exact ⟨by show eF + 1 ≤ 2048; decide, hR⟩) hp (g := F0 (gm G) pc ls st0) rfl hn hl.1 hst (lv_room (rest := st0) (ls := ls) (pc := pc) (m := gm G) hW) d ⟨by rw [hgR]; exact hkk.1, by rw [hgR]; exact hkk.2⟩ T hT Xs
  cases hv
  obtain ⟨t2, a1, b1⟩ := L_after (rv := rv) (st := st) (pc := pc) Λ0 hS0 hP0 hl h0 X' hL e1 hP1 hF kk
  exact ⟨t2, stp t2 a1, b1⟩
/-- the class' method that makes a trailer -/
theorem L_callN (Γ : Ok G own0 cc nL) (Λ : LK G X0 X1) {y : MethodName} {bytes : ByteArray} {maxL index nn : Nat} {ret : Option FieldType} {As : List Value} {rv : Option Value} (hM : ∀ X : Xw, MetN (gl G) X y bytes maxL ret 4 130 3 27 (.ref (xo X) :: As) σ rv σ')
    (hG : GoodIn lw_all (wsV own0 index (RZ 0) y (ws_ y bytes maxL ret))) (hd : y.cls = RZ 0 ∧ y.cls ≠ "java/lang/invoke/MethodHandle" ∧ y.cls ≠ "java/lang/invoke/VarHandle" ∧ (parseMethodDescriptor y.desc).map (fun d => d.parameters.length) = some nn) (hR : 8 + (maxL + 11) + 130 ≤ 94400) (hkk : k + 3 ≤ 603072 ∧ n + 2010 ≤ 7262314)
    (hn : As.length = nn) (hst : st0 = As.reverse ++ .ref (xo X0) :: st) (hW : (st.map fun v => v.category).sum ≤ 8) (d : decode cc pc = .ok (.invokevirtual index, 3)) (kk : ∀ ad : Nat → Nat, At (gX G (k + 3) (n + 2010) (LwP (xUp X0 ad) X1 τ)) nL σ' lv (rv.toList ++ st) (pc + 3)) : At (gX G k n (LwP X0 X1 τ)) nL σ lv st0 pc := by
  intro H locs ls hS hP hl T hT Xs
  have Λ0 := Λ
  obtain ⟨hK0, hK1, hXK, hXL, hXW, hgA, hx0, hx1, hgR, -⟩ := Λ
  have hS0 : va_S (rA G) (gs G).heap H locs := by rw [← hgA]; exact hS
  have hP0 : LwP X0 X1 τ σ H := hP
  have cw : CallW (gR G) (gs G) (gar G) own0 (RZ 0) index y bytes maxL ret (ws_ y bytes maxL ret) (rmE 4 130 3 27) 3 27 nn := cwV nn Γ.2.2.2.2 hG rfl rfl rfl hd (by rw [hgR]; exact ⟨by show 4 + 1 ≤ 2048; decide, hR⟩)
  have hp : PreV (gs G) H (RZ 0) (xo X0) (va_Pc (.ref (xo X0) :: As) (fun U => Pic 0 (xRg X0 (oN X0 σ H)) σ U.heap ∧ KX X0 U ∧ XK U ∧ XW U ∧ ∀ q : Nat, U.heap.size ≤ q → oN X0 σ H q)) As := ⟨fun a U g mk q => ⟨q.1, q.2.1, KX.moved (u := U) (U := U.calling g mk a) (Vm.Alike.refl U.vm) q.2.2.1, XK.same (u := U) (U := U.calling g mk a) rfl q.2.2.2.1, XW.same (u := U) (U := U.calling g mk a) rfl q.2.2.2.2.1, q.2.2.2.2.2⟩, L_recv hK0 rfl hP0.1, fun U hU hW => ⟨rfl, by rw [hU]; exact hP0.1.rg (fun q hq => Or.inl hq), KX.moved hW.alike hK0, XK.warm hW hXK, XW.warm hW hXW, fun q hq => Or.inr (by rw [hU] at hq; exact hq)⟩⟩
  obtain ⟨v, st₀, t, T', L, h0, X', hL, e1, e2, ⟨hv, hP1, hF⟩, stp⟩ := va_runV (rest := st) Γ (hM (xRg X0 (oN X0 σ H))) cw hp (g := F0 (gm G) pc ls st0) rfl hn hl.1 hst (lv_room (rest := st0) (ls := ls) (pc := pc) (m := gm G) hW) d ⟨by rw [hgR]; show k + 3 ≤ 603072; omega, by rw [hgR]; show n + 27 ≤ 7262314; omega⟩ T hT Xs
  cases hv
  obtain ⟨t2, a1, b1⟩ := L_after (rv := rv) (st := st) (pc := pc) Λ0 hS0 hP0 hl h0 (stand_widen X' (k := k + 3) (n := n + 2010) (by show k + 3 ≤ k + 3; omega) (by show n + 27 ≤ n + 2010; omega)) hL e1 hP1 hF kk
  exact ⟨t2, stp t2 a1, b1⟩
end LCalls
