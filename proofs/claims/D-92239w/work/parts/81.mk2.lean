/-! constructors of the two great classes: arrays of references, the contract -/
def st0 : St := (fun _ => 0, fun _ => 0, fun _ _ => 0, fun _ _ => 0, fun _ => none)
def XO (U : State) : Prop := (Cond.arrayOver (.array .int)).before #[] U = true ∧ (Cond.arrayOver (.array .byte)).before #[] U = true ∧ va_AO RX2 U
theorem XO.moved {u U : State} (h : u.vm.Alike U.vm) (k : XO u) : XO U := ⟨over_moved h k.1, over_moved h k.2.1, va_AO.moved h k.2.2⟩
section Mk2
variable {z : Nat} {X : Xw} {σ σ1 : St} {D : List Nat} {H H1 : Heap} {G : Gx} {own : String} {cc : ByteArray} {nL pc : Nat} {lv : List (Nat × Value)} {st : List Value} {c s : Nat} {ad : Nat → Nat}
theorem push_3 {H H1 : Heap} {cA : ClassId} {N : Nat} (hH1 : H.push ({ cls := cA, slots := Array.replicate N .null, vm := .none } : Cell) = H1) : H1.size = H.size + 1 ∧ H1[H.size]? = some (arrV cA N (fun _ => .null)) ∧ ∀ q : Nat, q < H.size → H1[q]? = H[q]? := by
  subst hH1
  exact ⟨by rw [Array.size_push], by rw [Array.getElem?_push_size, ← arrV_new], fun q hq => by rw [Array.getElem?_push, if_neg (Nat.ne_of_lt hq)]⟩
theorem K_newA (Γ : Ok G own cc nL) (Κ : OkK z G X) (hL : ∀ q, cL σ q = none) {k N index ic t : Nat} {et : FieldType} {n : Int32} (hk : k < NZ z) (hkD : k ∉ D) (hlink : Cond.fieldLink own index (RZ z) (TZ z k).2.1 (TZ z k).2.2.1 ∈ lw_all) (h1 : (TZ z k).1 = RZ z ∧ RZ z = own) (hfin : (TZ z k).2.2.2 = true) (hty : tyZ z k = .array (.array et)) (hcl0 : Cond.classLink own ic (FieldType.array et).toString ∈ lw_all) (hov : (Cond.arrayOver (.array et)).before (gar G) (gs G) = true) (ht : (tysX X)[t]? = some (xA X t, .array et)) (hcz : cellZ z X σ k = arrV (xA X t) N (fun _ => .null))
    (hn : ¬ n < 0) (hN : n.toNatClampNeg = N) (hb : N * 4 ≤ 536870912) (hcl : c + 1 ≤ (gR G).cells) (hsl : s + N ≤ (gR G).slots) (d1 : decode cc pc = .ok (.anewarray ic, 3)) (d2 : decode cc (pc + 3) = .ok (.putfield index, 3))
    (kk : ∀ ad' : Nat → Nat, At (gX G (c + 1) (s + N) (PicK z (xUp X ad') (k :: D))) nL σ lv st (pc + 3 + 3)) : At (gX G c s (PicK z (xUp X ad) D)) nL σ lv (.int n :: .ref (xo X) :: st) pc := by
  intro H locs ls hS hP hl
  subst hN
  refine W.anewA Γ.1 Γ.2.1 Γ.2.2.2.1 (Γ.2.2.2.2 _ hcl0) hov (g := F0 (gm G) pc ls (.int n :: .ref (xo X) :: st)) rfl d1 rfl hn hb hcl hsl fun cA kA comp f1 f2 f3 f4 => ?_
  generalize hH1 : H.push ({ cls := cA, slots := Array.replicate n.toNatClampNeg .null, vm := .none } : Cell) = H1
  obtain ⟨z1, e1, o1⟩ := push_3 hH1
  have hcA : cA = xA X t := Option.some.inj (f1.symm.trans (Κ.1.2 t _ ht).2)
  subst hcA
  have hP1 : PicK z (xUp X ad) D σ H1 := PicK.kept hP o1
  have hlo : xo X < H.size := PicK.lto (z := z) (X := xUp X ad) (D := D) (σ := σ) hP
  exact K_fin (c := c + 1) (s := s + n.toNatClampNeg) Γ Κ hL hk hlink h1 hfin hty d2 ⟨Nat.le_trans hS.1 (by omega), fun b g1 g2 => (o1 b (Nat.lt_of_lt_of_le g1 hS.1)).trans (hS.2.1 b g1 g2), hS.2.2⟩ hP1 hl (by rw [hcz]; exact e1) (by omega) (fun j hj => by have : xad (xUp X ad) j < H.size := PicK.lt hP hj; have : ad j < H.size := this; omega) (Κ.2.2.1 _ hS.1) kk
theorem K_newO (Γ : Ok G own cc nL) (Κ : OkK z G X) (hL : ∀ q, cL σ q = none) {k N index ic t : Nat} {C : String} {n : Int32} (hk : k < NZ z) (hkD : k ∉ D) (hlink : Cond.fieldLink own index (RZ z) (TZ z k).2.1 (TZ z k).2.2.1 ∈ lw_all) (h1 : (TZ z k).1 = RZ z ∧ RZ z = own) (hfin : (TZ z k).2.2.2 = true) (hty : tyZ z k = .array (.object C)) (hcl0 : Cond.classLink own ic C ∈ lw_all) (hov : va_AO C (gs G)) (ht : (tysX X)[t]? = some (xA X t, .object C)) (hcz : cellZ z X σ k = arrV (xA X t) N (fun _ => .null))
    (hn : ¬ n < 0) (hN : n.toNatClampNeg = N) (hb : N * 4 ≤ 536870912) (hcl : c + 1 ≤ (gR G).cells) (hsl : s + N ≤ (gR G).slots) (d1 : decode cc pc = .ok (.anewarray ic, 3)) (d2 : decode cc (pc + 3) = .ok (.putfield index, 3))
    (kk : ∀ ad' : Nat → Nat, At (gX G (c + 1) (s + N) (PicK z (xUp X ad') (k :: D))) nL σ lv st (pc + 3 + 3)) : At (gX G c s (PicK z (xUp X ad) D)) nL σ lv (.int n :: .ref (xo X) :: st) pc := by
  intro H locs ls hS hP hl
  subst hN
  refine W.anew Γ.1 Γ.2.1 Γ.2.2.2.1 (Γ.2.2.2.2 _ hcl0) (va_AO.use hov) (g := F0 (gm G) pc ls (.int n :: .ref (xo X) :: st)) rfl d1 rfl hn hb hcl hsl fun cA kA comp f1 f2 f3 f4 => ?_
  generalize hH1 : H.push ({ cls := cA, slots := Array.replicate n.toNatClampNeg .null, vm := .none } : Cell) = H1
  obtain ⟨z1, e1, o1⟩ := push_3 hH1
  have hcA : cA = xA X t := by
    obtain ⟨kA', comp', g1, g2, g3, g4⟩ := (Κ.1.2 t _ ht).2
    exact Option.some.inj (f1.symm.trans g4)
  subst hcA
  have hP1 : PicK z (xUp X ad) D σ H1 := PicK.kept hP o1
  have hlo : xo X < H.size := PicK.lto (z := z) (X := xUp X ad) (D := D) (σ := σ) hP
  exact K_fin (c := c + 1) (s := s + n.toNatClampNeg) Γ Κ hL hk hlink h1 hfin hty d2 ⟨Nat.le_trans hS.1 (by omega), fun b g1 g2 => (o1 b (Nat.lt_of_lt_of_le g1 hS.1)).trans (hS.2.1 b g1 g2), hS.2.2⟩ hP1 hl (by rw [hcz]; exact e1) (by omega) (fun j hj => by have : xad (xUp X ad) j < H.size := PicK.lt hP hj; have : ad j < H.size := this; omega) (Κ.2.2.1 _ hS.1) kk
theorem A_P {P P' : St → Heap → Prop} (h : ∀ H, P' σ H → P σ H) (kk : At (gX G c s P) nL σ lv st pc) : At (gX G c s P') nL σ lv st pc := by
  intro H locs ls hS hP hl
  show W (gp G) (gl G) (ge G) (gR G) (gs G) (gm G) (gar G) (gbe G) (gme G) (gc G) H locs c s (gQ G) (F0 (gm G) pc ls st)
  exact kk H locs ls hS (h H hP) hl
theorem K_done (hall : ∀ k, k < NZ z → isA (tyZ z k) = true → k ∈ D) (hL : ∀ q, cL σ q = none) (kk : At (gX G c s (Pic z (xUp X ad))) nL σ lv st pc) : At (gX G c s (PicK z (xUp X ad) D)) nL σ lv st pc := A_P (fun H hP => PicK.pic (X := xUp X ad) hP hall hL) kk
end Mk2
/-- a constructor of the two great classes -/
def MetC (z : Nat) (l : Launch) (X : Xw) (y : MethodName) (cc : ByteArray) (nL f lo mc ms : Nat) (σ' : St) : Prop :=
  Met l y (ws_ y cc nL none) (rmE f lo mc ms) (va_Pc [.ref (xo X)] (fun U => t_OB (xo X) (xC X z) (NZ z) (xI X z) U.heap (dfv z X st0 []) ∧ KX X U ∧ XK U ∧ XO U ∧ xR X (xo X) ∧ ∀ q : Nat, U.heap.size ≤ q → xR X q)) (fun _ st oc t => oc = .returned none ∧ (∃ ad, Pic z (xUp X ad) σ' t.heap) ∧ va_F (xR X) st t) mc ms (xR X)
theorem MetC.ofAt {z : Nat} {l : Launch} {X : Xw} {y : MethodName} {cc : ByteArray} {nL f lo mc ms : Nat} {σ' : St} (hy : plainName y.cls = true) (hyn : y.name = "<init>") (hnL : 1 ≤ nL) (hin : ∀ w ∈ u_ws (RZ z) (TZ z) (NZ z), w ∈ lw_all) (hc : vwCl[z]? = some (RZ z, TZ z, NZ z)) (hty : ∀ k, k < NZ z → parseFieldDescriptor (TZ z k).2.2.1 = some (tyZ z k)) (hnm : ∀ a, a < NZ z → ∀ b, b < NZ z → a ≠ b → (TZ z a).2.1 ≠ (TZ z b).2.1)
    (hbody : ∀ G : Gx, Ok G y.cls cc nL → OkK z G X → XO (gs G) → XK (gs G) → gR G = rmE f lo mc ms → (∀ (ad : Nat → Nat) (pc : Nat) (lv : List (Nat × Value)), retIs cc none none pc → At (gX G mc ms (Pic z (xUp X ad))) nL σ' lv [] pc) → At (gX G 0 0 (PicK z (xUp X (xad X)) [])) nL st0 [(0, .ref (xo X))] [] 0) : MetC z l X y cc nL f lo mc ms σ' := by
  refine Met.ofW (cc := cc) (maxL := nL) (ret := none) hy rfl ?_
  intro p e s m args below meth c s₁ B hml hv
  obtain ⟨rfl, hP, hK, hXK, hXO, hRo, hRn⟩ := hv
  have hts := atoms_spec (ws := ws_ y cc nL none) B.pre
  have hts : ∀ w ∈ lw_all, w.before _ s = true := fun w h => hts w (List.mem_cons_of_mem _ h)
  have hown : s.vm.findClass y.cls = some m.cls := findClass_of_methodNamed B.named
  have hname : meth.name = "<init>" := by rw [(name_of_methodNamed B.named B.method).1]; exact hyn
  have hl := lv_entry [.ref (xo X)] (n := nL) (by show 1 ≤ nL; exact hnL)
  rw [lg_entry_eq]
  generalize (lg_sl [Value.ref (xo X)] ++ List.replicate (nL - (lg_sl [Value.ref (xo X)]).length) Slot.unset).toArray = ls at hl ⊢
  let G : Gx := (p, l, e, (headSpec (ws_ y cc nL none) (rmE f lo mc ms)).room, s, m, [Value.ref (xo X)].toArray, below, meth, c, 0, 0, MQ below (fun _ st oc t => oc = .returned none ∧ (∃ ad, Pic z (xUp X ad) σ' t.heap) ∧ va_F (xR X) st t) [Value.ref (xo X)].toArray s mc ms (xR X), PicK z X [], xR X)
  refine hbody G ⟨B.exec, B.bytes, hml, hown, hts⟩ ⟨hK, rfl, hRn, hname, hin, hc, hty, hnm⟩ hXO hXK rfl ?_ s.heap [] ls va_S.rf ⟨hP, fun k hk => absurd hk (List.not_mem_nil), fun j k hj => absurd hj (List.not_mem_nil), fun k hk => absurd hk (List.not_mem_nil), hRo⟩ hl
  intro ad pc lv hd H locs ls hS hP hl
  show W p l e _ s m [Value.ref (xo X)].toArray below meth c H locs mc ms (MQ below (fun _ st oc t => oc = .returned none ∧ (∃ ad, Pic z (xUp X ad) σ' t.heap) ∧ va_F (xR X) st t) [Value.ref (xo X)].toArray s mc ms (xR X)) (F0 m pc ls [])
  exact ret_W (rv := none) B.exec B.bytes B.returns B.notSynchronized (fun t ht hW => ⟨rfl, ⟨ad, by rw [ht]; exact hP⟩, hS.F ht⟩) hS.2.2 hd
