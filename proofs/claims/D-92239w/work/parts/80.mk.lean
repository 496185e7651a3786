/-! an object while it is made: the arrays of the list D are laid -/
section Mk
variable {z : Nat} {X : Xw} {σ σ1 : St} {D : List Nat} {H H1 : Heap}
def dfv (z : Nat) (X : Xw) (σ : St) (D : List Nat) (k : Nat) : Value := if isA (tyZ z k) = true ∧ k ∉ D then .null else fv z X σ k
def PicK (z : Nat) (X : Xw) (D : List Nat) (σ : St) (H : Heap) : Prop :=
  t_OB (xo X) (xC X z) (NZ z) (xI X z) H (dfv z X σ D) ∧ (∀ k, k ∈ D → k < NZ z ∧ isA (tyZ z k) = true ∧ H[xad X k]? = some (cellZ z X σ k)) ∧ (∀ j k, j ∈ D → k ∈ D → xad X j = xad X k → j = k) ∧ (∀ k, k ∈ D → xR X (xad X k) ∧ xad X k ≠ xo X) ∧ xR X (xo X)
theorem PicK.pic (h : PicK z X D σ H) (hall : ∀ k, k < NZ z → isA (tyZ z k) = true → k ∈ D) (hL : ∀ q, cL σ q = none) : Pic z X σ H := by
  obtain ⟨h1, h2, h3, h4, h5⟩ := h
  have hl : ∀ k, live z σ k → k ∈ D := fun k hk => by
    rcases hk with ⟨a, b⟩ | ⟨-, -, c⟩
    · exact hall k a b
    · rw [hL] at c; cases c
  refine ⟨h1.to fun k hk => ?_, fun k a b => (h2 k (hall k a b)).2.2, fun _ q n _ c => (by rw [hL] at c; cases c), fun j k hj hk => h3 j k (hl j hj) (hl k hk), fun k hk => h4 k (hl k hk), h5⟩
  unfold dfv
  by_cases q : isA (tyZ z k) = true
  · rw [if_neg (fun w => w.2 (hall k hk q))]
  · rw [if_neg (fun w => q w.1)]
theorem rk_none (hL : ∀ q, cL σ q = none) (X : Xw) (q : Nat) : rk X σ q = none := by
  unfold rk
  rw [hL]
  rfl
theorem cellZ_ad (hL : ∀ q, cL σ q = none) (ad : Nat → Nat) (k : Nat) : cellZ z (xUp X ad) σ k = cellZ z X σ k := by
  unfold cellZ
  simp only [rk_none hL]
theorem dfv_ad {ad : Nat → Nat} {k j : Nat} (hj : j < NZ z) (hne : j ≠ k) (had : ∀ i, i ≠ k → ad i = xad X i) : dfv z (xUp X ad) σ (k :: D) j = dfv z X σ D j := by
  have e : (isA (tyZ z j) = true ∧ j ∉ k :: D) ↔ (isA (tyZ z j) = true ∧ j ∉ D) := by
    constructor
    · intro q; exact ⟨q.1, fun w => q.2 (List.mem_cons_of_mem _ w)⟩
    · intro q
      refine ⟨q.1, fun w => ?_⟩
      rcases List.mem_cons.mp w with g | g
      · exact hne g
      · exact q.2 g
  unfold dfv
  by_cases q : isA (tyZ z j) = true ∧ j ∉ D
  · rw [if_pos q, if_pos (e.mpr q)]
  · rw [if_neg q, if_neg (fun w => q (e.mp w))]
    unfold fv
    split
    · rfl
    · rfl
    · rfl
    · show Value.ref (ad j) = _
      rw [had j hne]
    · rfl
theorem dfv_at {ad : Nat → Nat} {k a : Nat} {et : FieldType} (hty : tyZ z k = .array et) (had : ad k = a) : dfv z (xUp X ad) σ (k :: D) k = .ref a := by
  unfold dfv
  rw [if_neg (fun w => w.2 (List.mem_cons_self ..))]
  unfold fv
  rw [hty]
  show Value.ref (ad k) = _
  rw [had]
/-- a field that was set -/
theorem PicK.add (h : PicK z X D σ H) (hL : ∀ q, cL σ q = none) {k a : Nat} {et : FieldType} (hk : k < NZ z) (hty : tyZ z k = .array et) (hcell : H[a]? = some (cellZ z X σ k)) (hao : a ≠ xo X) (haD : ∀ j, j ∈ D → xad X j ≠ a) (hR : xR X a) (e : t_OB (xo X) (xC X z) (NZ z) (xI X z) H1 (updV (dfv z X σ D) k (.ref a))) (oq : ∀ q : Nat, q ≠ xo X → H1[q]? = H[q]?) : PicK z (xUp X (va_up (xad X) k a)) (k :: D) σ H1 := by
  obtain ⟨h1, h2, h3, h4, h5⟩ := h
  have ad1 : ∀ i, i ≠ k → va_up (xad X) k a i = xad X i := fun i hi => by unfold va_up; rw [if_neg hi]
  have ad0 : va_up (xad X) k a k = a := by unfold va_up; rw [if_pos rfl]
  have hia : isA (tyZ z k) = true := by rw [hty]; rfl
  refine ⟨e.to fun j hj => ?_, fun j hj => ?_, fun i j hi hj hij => ?_, fun j hj => ?_, h5⟩
  · unfold updV
    by_cases q : j = k
    · rw [if_pos q, q]; exact (dfv_at hty ad0).symm
    · rw [if_neg q]; exact (dfv_ad hj q ad1).symm
  · by_cases q : j = k
    · subst q
      refine ⟨hk, hia, ?_⟩
      show H1[va_up (xad X) j a j]? = _
      rw [ad0, oq a hao, cellZ_ad hL]; exact hcell
    · have hj' : j ∈ D := (List.mem_cons.mp hj).resolve_left q
      obtain ⟨g1, g2, g3⟩ := h2 j hj'
      refine ⟨g1, g2, ?_⟩
      show H1[va_up (xad X) k a j]? = _
      rw [ad1 j q, oq _ (h4 j hj').2, cellZ_ad hL]; exact g3
  · have hij : va_up (xad X) k a i = va_up (xad X) k a j := hij
    by_cases qi : i = k
    · by_cases qj : j = k
      · rw [qi, qj]
      · rw [qi, ad0, ad1 j qj] at hij
        exact absurd hij.symm (haD j ((List.mem_cons.mp hj).resolve_left qj))
    · by_cases qj : j = k
      · rw [qj, ad0, ad1 i qi] at hij
        exact absurd hij (haD i ((List.mem_cons.mp hi).resolve_left qi))
      · rw [ad1 i qi, ad1 j qj] at hij
        exact h3 i j ((List.mem_cons.mp hi).resolve_left qi) ((List.mem_cons.mp hj).resolve_left qj) hij
  · show xR X (va_up (xad X) k a j) ∧ va_up (xad X) k a j ≠ xo X
    by_cases q : j = k
    · rw [q, ad0]; exact ⟨hR, hao⟩
    · rw [ad1 j q]; exact h4 j ((List.mem_cons.mp hj).resolve_left q)
theorem PicK.kept (h : PicK z X D σ H) (oq : ∀ q : Nat, q < H.size → H1[q]? = H[q]?) : PicK z X D σ H1 := by
  obtain ⟨h1, h2, h3, h4, h5⟩ := h
  have ho : xo X < H.size := by
    obtain ⟨cell, g1, -⟩ := h1
    exact (Array.getElem?_eq_some_iff.mp g1).1
  refine ⟨h1.kept (oq _ ho), fun k hk => ?_, h3, h4, h5⟩
  obtain ⟨g1, g2, g3⟩ := h2 k hk
  exact ⟨g1, g2, by rw [oq _ (Array.getElem?_eq_some_iff.mp g3).1]; exact g3⟩
theorem PicK.lt (h : PicK z X D σ H) {k : Nat} (hk : k ∈ D) : xad X k < H.size := (Array.getElem?_eq_some_iff.mp (h.2.1 k hk).2.2).1
theorem PicK.lto (h : PicK z X D σ H) : xo X < H.size := by
  obtain ⟨⟨cell, g1, -⟩, -⟩ := h
  exact (Array.getElem?_eq_some_iff.mp g1).1
/-- what all rules of the making ask: the words, the region -/
def OkK (z : Nat) (G : Gx) (X : Xw) : Prop := KX X (gs G) ∧ gA G = xR X ∧ (∀ q : Nat, (gs G).heap.size ≤ q → xR X q) ∧ (gme G).name = "<init>" ∧ (∀ w ∈ u_ws (RZ z) (TZ z) (NZ z), w ∈ lw_all) ∧ vwCl[z]? = some (RZ z, TZ z, NZ z) ∧ (∀ k, k < NZ z → parseFieldDescriptor (TZ z k).2.2.1 = some (tyZ z k)) ∧ ∀ a, a < NZ z → ∀ b, b < NZ z → a ≠ b → (TZ z a).2.1 ≠ (TZ z b).2.1
variable {G : Gx} {own : String} {cc : ByteArray} {nL pc : Nat} {lv : List (Nat × Value)} {st : List Value} {c s : Nat} {ad : Nat → Nat}
/-- a new array, put where it belongs -/
theorem K_fin (Γ : Ok G own cc nL) (Κ : OkK z G X) (hL : ∀ q, cL σ q = none) {k a index : Nat} {et : FieldType} (hk : k < NZ z) (hlink : Cond.fieldLink own index (RZ z) (TZ z k).2.1 (TZ z k).2.2.1 ∈ lw_all) (h1 : (TZ z k).1 = RZ z ∧ RZ z = own) (hfin : (TZ z k).2.2.2 = true) (hty : tyZ z k = .array et) (d : decode cc pc = .ok (.putfield index, 3)) {locs : List Loc} {ls : Array Slot}
    (hS : va_S (gA G) (gs G).heap H locs) (hP : PicK z (xUp X ad) D σ H) (hl : lv_has ls nL lv) (hcell : H[a]? = some (cellZ z X σ k)) (hao : a ≠ xo X) (haD : ∀ j, j ∈ D → ad j ≠ a) (hR : xR X a) (kk : ∀ ad' : Nat → Nat, At (gX G c s (PicK z (xUp X ad') (k :: D))) nL σ lv st (pc + 3)) : gW (gX G c s (PicK z X D)) H locs (F0 (gm G) pc ls (.ref a :: .ref (xo X) :: st)) := by
  obtain ⟨hK, hA, hRn, hin2, hin, hc, htys, hnm⟩ := Κ
  have hPP := hP
  obtain ⟨⟨cell, q1, q2, q3, q4⟩, -, -, -, hRo⟩ := hP
  have hap := va_apart (own := own) (D := (xC X, xI X)) Γ.2.2.2.2 hin (tyZ z) htys hnm hK hc
  obtain ⟨hSl, hfc, kC, hkC, hkind⟩ := hK.1 z _ hc
  obtain ⟨cf, kf, fi, f, hi, hsl⟩ := hSl k hk
  have hlay := Γ.2.2.2.2 _ (hin _ (u_in_lay hk))
  unfold u_lay at hlay
  rw [if_pos hfin] at hlay
  have hst := (u_facts hfc hkC (u_lays Γ.2.2.2.2 hin hk) hi).1
  have hcf : (gm G).cls = cf := by
    obtain ⟨_, _, c', _, _, _, -, -, hf', -, -, -, hown2, -⟩ := Cond.laysFinal_spec hlay
    have e1 : c' = cf := by have := hi.symm.trans hf'; simp at this; exact this.1.symm
    rw [h1.1, h1.2] at hown2
    rw [← e1]; exact Option.some.inj (Γ.2.2.2.1.symm.trans hown2)
  have h6 := u_fits hfc hkC hkind (Or.inr hlay) hi (htys k hk) (v := .ref a) (by rw [hty]; rfl) (by rw [hty]; rfl)
  refine W.putFinK Γ.1 Γ.2.1 Γ.2.2.2.1 (Γ.2.2.2.2 _ hlink) (by rw [← h1.1]; exact hi) hst hcf hin2 (by rw [q2]; exact h6) q1 q3 (by rw [hsl]; exact k2_hasslot (q4 k hk)) rfl rfl d fun H' e1 e2 e3 => ?_
  rw [hsl] at e1 ⊢
  refine kk (va_up ad k a) H' _ ls (hS.put e2 e3 (by rw [hA]; exact hRo)) ?_ hl
  exact PicK.add (X := xUp X ad) hPP hL hk hty (by rw [cellZ_ad hL]; exact hcell) hao haD hR ⟨_, e1, q2, q3, t_set q4 hap hk (.ref a)⟩ e3
theorem K_new (Γ : Ok G own cc nL) (Κ : OkK z G X) (hL : ∀ q, cL σ q = none) {k N index t : Nat} {at_ : ArrayType} {n : Int32} (hk : k < NZ z) (hkD : k ∉ D) (hlink : Cond.fieldLink own index (RZ z) (TZ z k).2.1 (TZ z k).2.2.1 ∈ lw_all) (h1 : (TZ z k).1 = RZ z ∧ RZ z = own) (hfin : (TZ z k).2.2.2 = true) (hty : tyZ z k = .array (newarray.typeOf at_)) (hw : Cond.arrayClass (newarray.typeOf at_) ∈ lw_all) (ht : (tysX X)[t]? = some (xA X t, newarray.typeOf at_)) (hcz : cellZ z X σ k = arrV (xA X t) N (fun _ => defaultValue (newarray.typeOf at_))) (hnm : va_RA (gs G) (xA X t) (newarray.typeOf at_) → (gs G).vm.findClass ("[" ++ (newarray.typeOf at_).toString) = some (xA X t))
    (hn : ¬ n < 0) (hN : n.toNatClampNeg = N) (hb : N * componentBytes (newarray.typeOf at_) ≤ 536870912) (hcl : c + 1 ≤ (gR G).cells) (hsl : s + N ≤ (gR G).slots) (d1 : decode cc pc = .ok (.newarray at_, 2)) (d2 : decode cc (pc + 2) = .ok (.putfield index, 3))
    (kk : ∀ ad' : Nat → Nat, At (gX G (c + 1) (s + N) (PicK z (xUp X ad') (k :: D))) nL σ lv st (pc + 2 + 3)) : At (gX G c s (PicK z (xUp X ad) D)) nL σ lv (.int n :: .ref (xo X) :: st) pc := by
  intro H locs ls hS hP hl
  refine va_newaK Γ.1 Γ.2.1 (Γ.2.2.2.2 _ hw) (g := F0 (gm G) pc ls (.int n :: .ref (xo X) :: st)) rfl d1 rfl hn hN hb hcl hsl rfl fun H1 cA e1 z1 o1 hAr hNm => ?_
  have hcA : cA = xA X t := Option.some.inj (hNm.symm.trans (hnm (Κ.1.2 t _ ht).2))
  subst hcA
  have hP1 : PicK z (xUp X ad) D σ H1 := PicK.kept hP o1
  have hlo : xo X < H.size := PicK.lto (z := z) (X := xUp X ad) (D := D) (σ := σ) hP
  exact K_fin (c := c + 1) (s := s + N) Γ Κ hL hk hlink h1 hfin hty d2 ⟨Nat.le_trans hS.1 (by omega), fun b g1 g2 => (o1 b (Nat.lt_of_lt_of_le g1 hS.1)).trans (hS.2.1 b g1 g2), hS.2.2⟩ hP1 hl (by rw [hcz]; exact e1) (by omega) (fun j hj => by have : xad (xUp X ad) j < H.size := PicK.lt hP hj; have : ad j < H.size := this; omega) (Κ.2.2.1 _ hS.1) kk
/-- a number put into a field while the object is made -/
theorem K_put (Γ : Ok G own cc nL) (Κ : OkK z G X) {k index : Nat} {v : Value} (hk : k < NZ z) (hlink : Cond.fieldLink own index (RZ z) (TZ z k).2.1 (TZ z k).2.2.1 ∈ lw_all) (h1 : (TZ z k).1 = RZ z) (hfin : (TZ z k).2.2.2 = false) (hA : isA (tyZ z k) = false) (hn : narrow (tyZ z k) v = v) (hfit : fits (tyZ z k) v = true) (hv : fv z X σ1 k = v) (ho : ∀ (Y : Xw) j, j ≠ k → fv z Y σ1 j = fv z Y σ j) (hv2 : ∀ Y : Xw, fv z Y σ1 k = fv z X σ1 k) (h2 : ∀ (Y : Xw) j, cellZ z Y σ1 j = cellZ z Y σ j) (d : decode cc pc = .ok (.putfield index, 3))
    (kk : At (gX G c s (PicK z (xUp X ad) D)) nL σ1 lv st (pc + 3)) : At (gX G c s (PicK z (xUp X ad) D)) nL σ lv (v :: .ref (xo X) :: st) pc := by
  intro H locs ls hS hP hl
  obtain ⟨hK, hAx, hRn, hin2, hin, hc, htys, hnm⟩ := Κ
  have hPP : PicK z (xUp X ad) D σ H := hP
  obtain ⟨⟨cell, q1, q2, q3, q4⟩, p2, p3, p4, hRo⟩ := hPP
  have hap := va_apart (own := own) (D := (xC X, xI X)) Γ.2.2.2.2 hin (tyZ z) htys hnm hK hc
  obtain ⟨hSl, hfc, kC, hkC, hkind⟩ := hK.1 z _ hc
  obtain ⟨cf, kf, fi, f, hi, hsl⟩ := hSl k hk
  have hlay := Γ.2.2.2.2 _ (hin _ (u_in_lay hk))
  unfold u_lay at hlay
  rw [if_neg (by rw [hfin]; decide)] at hlay
  have hst := (u_facts hfc hkC (u_lays Γ.2.2.2.2 hin hk) hi).1
  have h6 := u_store hfc hkC hkind hlay hi (htys k hk) hn hfit
  refine W.putK Γ.1 Γ.2.1 (f := f) ⟨Γ.2.2.2.1, Γ.2.2.2.2 _ hlink, ⟨_, _, _, by rw [← h1]; exact hi⟩, hst⟩ (by rw [q2]; exact h6) q1 q3 (by rw [hsl]; exact k2_hasslot (q4 k hk)) rfl rfl d fun H' e1 e2 e3 => ?_
  rw [hsl] at e1 ⊢
  refine kk H' _ ls (hS.put e2 e3 (by show gA G _; rw [hAx]; exact hRo)) ?_ hl
  refine ⟨t_OB.to (V := updV (dfv z (xUp X ad) σ D) k v) ⟨_, e1, q2, q3, t_set q4 hap hk v⟩ (fun j _ => ?_), fun j hj => ?_, p3, p4, hRo⟩
  · unfold updV dfv
    by_cases q : j = k
    · rw [if_pos q, q, if_neg (fun w => by rw [hA] at w; cases w.1), hv2, hv]
    · rw [if_neg q, ho _ j q]
  · obtain ⟨g1, g2, g3⟩ := p2 j hj
    exact ⟨g1, g2, by rw [e3 _ (p4 j hj).2, h2]; exact g3⟩
/-- the call of Object's constructor -/
theorem A_obj (Γ : Ok G own cc nL) {idx a : Nat} (hlink : Cond.methodLink own idx Lib.objectInit ∈ lw_all) (hf : 1 ≤ (gR G).frames) (hlo : 20 ≤ (gR G).locals) (hst : (st.map fun v => v.category).sum ≤ 8) (d : decode cc pc = .ok (.invokespecial idx, 3)) (kk : At G nL σ lv st (pc + 3)) : At G nL σ lv (.ref a :: st) pc := by
  intro H locs ls hS hP hl
  refine W.objInit Γ.1 Γ.2.1 Γ.2.2.2.1 (Γ.2.2.2.2 _ hlink) (Γ.2.2.2.2 _ q92) (Γ.2.2.2.2 _ q93) (g := F0 (gm G) pc ls (.ref a :: st)) rfl (hl.1.trans Γ.2.2.1.symm) rfl d hf ?_ (kk H locs ls hS hP hl)
  have h1 := lv_room (rest := st) (ls := ls) (pc := pc) (m := gm G) hst
  have h2 : 2 * (F0 (gm G) pc ls (.ref a :: st)).monitorRoom + (st.map fun v => v.category).sum ≤ 8 := h1
  omega
end Mk
