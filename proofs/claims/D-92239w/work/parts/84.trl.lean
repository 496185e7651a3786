/-! a trailer while it is made -/
theorem Pic.keptL {z : Nat} {X : Xw} {σ : St} {H H1 : Heap} (h : Pic z X σ H) (ho : H1[xo X]? = H[xo X]?) (hq : ∀ k, live z σ k → H1[xad X k]? = H[xad X k]?) : Pic z X σ H1 := by
  obtain ⟨h1, h2, h3, h4, h5, h6⟩ := h
  refine ⟨h1.kept ho, fun k a b => ?_, fun a q n b c => ?_, h4, h5, h6⟩
  · rw [hq k (Or.inl ⟨a, b⟩)]
    exact h2 k a b
  · have hv : live z σ q := Or.inr ⟨a, b, by rw [c]; rfl⟩
    exact (h3 a q n b c).kept (hq q hv) rfl
def updO (V : Nat → Option Value) (k : Nat) (v : Value) : Nat → Option Value := fun j => if j = k then some v else V j
/-- an object of which some fields are known -/
def tOp (a : Nat) (cC : ClassId) (N : Nat) (iS : Nat → Nat) (H : Heap) (V : Nat → Option Value) : Prop :=
  ∃ cell : Cell, H[a]? = some cell ∧ cell.cls = cC ∧ cell.vm = .none ∧ ∀ k, k < N → ∃ v, cell.slots[iS k]? = some v ∧ ∀ w, V k = some w → v = w
def TP (X : Xw) (n a : Nat) (V : Nat → Option Value) (B : List Nat) (σ : St) (H : Heap) : Prop :=
  Pic 0 X σ H ∧ tOp a (xC X (2 + n)) (NT n) (xI X (2 + n)) H V ∧ (xR X a ∧ a ≠ xo X ∧ ∀ k, live 0 σ k → xad X k ≠ a) ∧ (∀ b, b ∈ B → H[b]? = some (arrV (xA X 0) 6 (fun _ => .int 0)) ∧ xR X b ∧ b ≠ a ∧ b ≠ xo X ∧ ∀ k, live 0 σ k → xad X k ≠ b) ∧ B.Pairwise (fun b c => b ≠ c)
section Trl
variable {X : Xw} {σ : St} {H H1 : Heap} {n a : Nat} {V : Nat → Option Value} {B : List Nat} {G : Gx} {own : String} {cc : ByteArray} {nL pc : Nat} {lv : List (Nat × Value)} {st : List Value} {c s : Nat}
theorem TP.lta (h : TP X n a V B σ H) : a < H.size := by
  obtain ⟨-, ⟨cell, g1, -⟩, -⟩ := h
  exact (Array.getElem?_eq_some_iff.mp g1).1
theorem TP.kept (h : TP X n a V B σ H) (oq : ∀ q : Nat, q < H.size → H1[q]? = H[q]?) : TP X n a V B σ H1 := by
  have hla := h.lta
  obtain ⟨h1, ⟨cell, g1, g2⟩, h3, h4, h5⟩ := h
  refine ⟨h1.keptL (oq _ h1.lto) (fun k hk => oq _ (h1.lt hk)), ⟨cell, by rw [oq _ hla]; exact g1, g2⟩, h3, fun b hb => ?_, h5⟩
  obtain ⟨e1, e2⟩ := h4 b hb
  exact ⟨by rw [oq _ (Array.getElem?_eq_some_iff.mp e1).1]; exact e1, e2⟩
/-- what the rules of the making ask -/
def OkT (G : Gx) (X : Xw) : Prop := KX X (gs G) ∧ gA G = xR X ∧ (∀ q : Nat, (gs G).heap.size ≤ q → xR X q) ∧ (gme G).name = "<init>" ∧ XK (gs G)
/-- a field put -/
theorem T_putW (Γ : Ok G own cc nL) (Κ : OkT G X) (hn4 : n < 4) {k index : Nat} {ref : String} {v : Value} (hk : k < NT n) (hlink : Cond.fieldLink own index ref (TT n k).2.1 (TT n k).2.2.1 ∈ lw_all) (hsame : ∀ x, (gs G).fieldFound? (TT n k).1 (TT n k).2.1 (TT n k).2.2.1 = some x → (gs G).fieldFound? ref (TT n k).2.1 (TT n k).2.2.1 = some x) (hfin : (TT n k).2.2.2 = true → (TT n k).1 = own) (hnr : narrow (tyT n k) v = v) (hfit : fits (tyT n k) v = true) (hcol : ∀ j, j < NT n → j ≠ k → (TT n j).2.1 = (TT n k).2.1 → V j = none ∨ V j = some v) (d : decode cc pc = .ok (.putfield index, 3)) {locs : List Loc} {ls : Array Slot}
    (hS : va_S (gA G) (gs G).heap H locs) (hP : TP X n a V B σ H) (hl : lv_has ls nL lv) (kk : At (gX G c s (TP X n a (updO V k v) B)) nL σ lv st (pc + 3)) : W (gp G) (gl G) (ge G) (gR G) (gs G) (gm G) (gar G) (gbe G) (gme G) (gc G) H locs c s (gQ G) (F0 (gm G) pc ls (v :: .ref a :: st)) := by
  obtain ⟨hK, hA, hRn, hin2, -⟩ := Κ
  have hPP := hP
  obtain ⟨hPic, ⟨cell, q1, q2, q3, q4⟩, ⟨hRa, hao, hal⟩, hB, hnd⟩ := hP
  obtain ⟨hSl, hfc, kC, hkC, hkind⟩ := hK.1 (2 + n) _ (vwT n hn4)
  obtain ⟨cf, kf, fi, fd, hi, hsl⟩ := hSl k hk
  have hin := in_T n hn4
  have hlay := Γ.2.2.2.2 _ (hin _ (u_in_lay hk))
  have hst := (u_facts hfc hkC (u_lays Γ.2.2.2.2 hin hk) hi).1
  obtain ⟨v0, hv0, -⟩ := q4 k hk
  have hap : ∀ b, b < NT n → b ≠ k → (TT n b).2.1 ≠ (TT n k).2.1 → xI X (2 + n) b ≠ xI X (2 + n) k := by
    intro b hb hbf hnm
    obtain ⟨_, _, _, fb, hib, eb⟩ := hSl b hb
    show (xC X, xI X).2 (2 + n) b ≠ (xC X, xI X).2 (2 + n) k
    rw [← eb, ← hsl]
    refine u_apart (u_lays Γ.2.2.2.2 hin hb) (u_lays Γ.2.2.2.2 hin hk) hib hi ?_
    rw [(State.fieldFound?_type hib (ty_T n hn4 b hb)).1, (State.fieldFound?_type hi (ty_T n hn4 k hk)).1]
    exact hnm
  have hlt : xI X (2 + n) k < cell.slots.size := (Array.getElem?_eq_some_iff.mp hv0).1
  have fin : ∀ H' : Heap, H'[a]? = some (cell.setSlot (xI X (2 + n) k) v) → H'.size = H.size → (∀ q, q ≠ a → H'[q]? = H[q]?) → W (gp G) (gl G) (ge G) (gR G) (gs G) (gm G) (gar G) (gbe G) (gme G) (gc G) H' (locs ++ [⟨a, xI X (2 + n) k⟩]) c s (gQ G) (F0 (gm G) (pc + 3) ls st) := fun H' e1 e2 e3 => by
    refine kk H' _ ls (hS.put e2 e3 (by rw [hA]; exact hRa)) ?_ hl
    refine ⟨hPic.keptL (e3 _ (Ne.symm hao)) (fun j hj => e3 _ (hal j hj)), ⟨_, e1, q2, q3, fun j hj => ?_⟩, ⟨hRa, hao, hal⟩, fun b hb => ?_, hnd⟩
    · obtain ⟨vj, hvj, hVj⟩ := q4 j hj
      show ∃ v_1, (cell.slots.setIfInBounds (xI X (2 + n) k) v)[xI X (2 + n) j]? = some v_1 ∧ _
      by_cases e : xI X (2 + n) j = xI X (2 + n) k
      · rw [e]
        refine ⟨v, by simp [Array.getElem?_setIfInBounds, hlt], fun w hw => ?_⟩
        unfold updO at hw
        by_cases q : j = k
        · rw [if_pos q] at hw; exact Option.some.inj hw
        · rw [if_neg q] at hw
          have hnm : (TT n j).2.1 = (TT n k).2.1 := Classical.byContradiction fun z => hap j hj q z e
          rcases hcol j hj q hnm with g | g
          · rw [g] at hw; cases hw
          · rw [g] at hw; exact Option.some.inj hw
      · refine ⟨vj, by simp [Array.getElem?_setIfInBounds, Ne.symm e, hvj], fun w hw => hVj w ?_⟩
        unfold updO at hw
        rw [if_neg (fun q => e (by rw [q]))] at hw
        exact hw
    · obtain ⟨b1, b2, b3, b4⟩ := hB b hb
      exact ⟨by rw [e3 b b3]; exact b1, b2, b3, b4⟩
  unfold u_lay at hlay
  by_cases hf : (TT n k).2.2.2 = true
  · rw [if_pos hf] at hlay
    have hcf : (gm G).cls = cf := by
      obtain ⟨_, _, c', _, _, _, -, -, hf', -, -, -, hown2, -⟩ := Cond.laysFinal_spec hlay
      have e1 : c' = cf := by have := hi.symm.trans hf'; simp at this; exact this.1.symm
      rw [hfin hf] at hown2
      rw [← e1]; exact Option.some.inj (Γ.2.2.2.1.symm.trans hown2)
    have h6 := u_fits hfc hkC hkind (Or.inr hlay) hi (ty_T n hn4 k hk) hnr hfit
    refine W.putFinK Γ.1 Γ.2.1 Γ.2.2.2.1 (Γ.2.2.2.2 _ hlink) (hsame _ hi) hst hcf hin2 (by rw [q2]; exact h6) q1 q3 (by rw [hsl]; exact hlt) rfl rfl d fun H' e1 e2 e3 => ?_
    rw [hsl] at e1 ⊢
    exact fin H' e1 e2 e3
  · rw [if_neg hf] at hlay
    have h6 := u_store hfc hkC hkind hlay hi (ty_T n hn4 k hk) hnr hfit
    refine W.putK Γ.1 Γ.2.1 (f := fd) ⟨Γ.2.2.2.1, Γ.2.2.2.2 _ hlink, ⟨_, _, _, hsame _ hi⟩, hst⟩ (by rw [q2]; exact h6) q1 q3 (by rw [hsl]; exact hlt) rfl rfl d fun H' e1 e2 e3 => ?_
    rw [hsl] at e1 ⊢
    exact fin H' e1 e2 e3
theorem T_put (Γ : Ok G own cc nL) (Κ : OkT G X) (hn4 : n < 4) {k index : Nat} {ref : String} {v : Value} (hk : k < NT n) (hlink : Cond.fieldLink own index ref (TT n k).2.1 (TT n k).2.2.1 ∈ lw_all) (hsame : ∀ x, (gs G).fieldFound? (TT n k).1 (TT n k).2.1 (TT n k).2.2.1 = some x → (gs G).fieldFound? ref (TT n k).2.1 (TT n k).2.2.1 = some x) (hfin : (TT n k).2.2.2 = true → (TT n k).1 = own) (hnr : narrow (tyT n k) v = v) (hfit : fits (tyT n k) v = true) (hcol : ∀ j, j < NT n → j ≠ k → (TT n j).2.1 = (TT n k).2.1 → V j = none ∨ V j = some v) (d : decode cc pc = .ok (.putfield index, 3)) (kk : At (gX G c s (TP X n a (updO V k v) B)) nL σ lv st (pc + 3)) : At (gX G c s (TP X n a V B)) nL σ lv (v :: .ref a :: st) pc := fun H locs ls hS hP hl => T_putW Γ Κ hn4 hk hlink hsame hfin hnr hfit hcol d hS hP hl kk
/-- six numbers laid and put into a field -/
theorem T_new (Γ : Ok G own cc nL) (Κ : OkT G X) (hn4 : n < 4) {k index : Nat} {ref : String} (hk : k < NT n) (hlink : Cond.fieldLink own index ref (TT n k).2.1 (TT n k).2.2.1 ∈ lw_all) (hsame : ∀ x, (gs G).fieldFound? (TT n k).1 (TT n k).2.1 (TT n k).2.2.1 = some x → (gs G).fieldFound? ref (TT n k).2.1 (TT n k).2.2.1 = some x) (hfin : (TT n k).2.2.2 = true → (TT n k).1 = own) (hty : tyT n k = .array .int) (hcol : ∀ j, j < NT n → j ≠ k → (TT n j).2.1 ≠ (TT n k).2.1) (hcl : c + 1 ≤ (gR G).cells) (hsl : s + 6 ≤ (gR G).slots) (d1 : decode cc pc = .ok (.newarray .int, 2)) (d2 : decode cc (pc + 2) = .ok (.putfield index, 3))
    (kk : ∀ b : Nat, At (gX G (c + 1) (s + 6) (TP X n a (updO V k (.ref b)) (b :: B))) nL σ lv st (pc + 2 + 3)) : At (gX G c s (TP X n a V B)) nL σ lv (.int 6 :: .ref a :: st) pc := by
  intro H locs ls hS hP hl
  refine va_newaK (atype := .int) Γ.1 Γ.2.1 (Γ.2.2.2.2 _ q291) (g := F0 (gm G) pc ls (.int 6 :: .ref a :: st)) rfl d1 rfl (by decide) (N := 6) (by decide) (by decide) hcl hsl rfl fun H1 cA e1 z1 o1 hAr hNm => ?_
  have hcA : cA = xA X 0 := Option.some.inj (hNm.symm.trans (Κ.1.2 0 _ rfl).2)
  subst hcA
  have hP0 : TP X n a V B σ H := hP
  have hP1 : TP X n a V (H.size :: B) σ H1 := by
    have h := hP0.kept o1
    obtain ⟨g1, g2, g3, g4, g5⟩ := h
    refine ⟨g1, g2, g3, fun b hb => ?_, List.pairwise_cons.mpr ⟨fun b hb => ?_, g5⟩⟩
    · rcases List.mem_cons.mp hb with g | g
      · subst g
        have := hP0.lta
        have := hP0.1.lto
        exact ⟨e1, Κ.2.2.1 _ hS.1, by omega, by omega, fun k hk => by have := hP0.1.lt hk; omega⟩
      · exact g4 b g
    · have : b < H.size := (Array.getElem?_eq_some_iff.mp (hP0.2.2.2.1 b hb).1).1
      omega
  exact T_putW (c := c + 1) (s := s + 6) Γ Κ hn4 hk hlink hsame hfin (by rw [hty]; rfl) (by rw [hty]; rfl) (fun j hj hne he => absurd he (hcol j hj hne)) d2 ⟨Nat.le_trans hS.1 (by omega), fun b g1 g2 => (o1 b (Nat.lt_of_lt_of_le g1 hS.1)).trans (hS.2.1 b g1 g2), hS.2.2⟩ hP1 hl (kk H.size)
end Trl
/-- a trailer's constructor -/
def MetT (l : Launch) (X : Xw) (y : MethodName) (cc : ByteArray) (f lo n a : Nat) (V : Nat → Option Value) (x1 x2 x3 : Int32) (σ : St) (E : Nat → Nat → Nat → Option Value) : Prop :=
  Met l y (ws_ y cc 5 none) (rmE f lo 2 12) (va_Pc [.ref a, .ref (xo X), .int x1, .int x2, .int x3] (fun U => TP X n a V [] σ U.heap ∧ KX X U ∧ XK U ∧ ∀ q : Nat, U.heap.size ≤ q → xR X q)) (fun _ st oc t => oc = .returned none ∧ (∃ b1 b2, TP X n a (E b1 b2) [b2, b1] σ t.heap) ∧ va_F (xR X) st t) 2 12 (xR X)
theorem MetT.ofAt {l : Launch} {X : Xw} {y : MethodName} {cc : ByteArray} {f lo n a : Nat} {V : Nat → Option Value} {x1 x2 x3 : Int32} {σ : St} {E : Nat → Nat → Nat → Option Value} (hy : plainName y.cls = true) (hyn : y.name = "<init>")
    (hbody : ∀ G : Gx, gl G = l → Ok G y.cls cc 5 → OkT G X → gR G = rmE f lo 2 12 → (∀ (b1 b2 pc : Nat) (lv : List (Nat × Value)), retIs cc none none pc → At (gX G 2 12 (TP X n a (E b1 b2) [b2, b1])) 5 σ lv [] pc) → At (gX G 0 0 (TP X n a V [])) 5 σ [(0, .ref a), (1, .ref (xo X)), (2, .int x1), (3, .int x2), (4, .int x3)] [] 0) : MetT l X y cc f lo n a V x1 x2 x3 σ E := by
  refine Met.ofW (cc := cc) (maxL := 5) (ret := none) hy rfl ?_
  intro p e s m args below meth c s₁ B hml hv
  obtain ⟨rfl, hP, hK, hXK, hRn⟩ := hv
  have hts := atoms_spec (ws := ws_ y cc 5 none) B.pre
  have hts : ∀ w ∈ lw_all, w.before _ s = true := fun w h => hts w (List.mem_cons_of_mem _ h)
  have hown : s.vm.findClass y.cls = some m.cls := findClass_of_methodNamed B.named
  have hname : meth.name = "<init>" := by rw [(name_of_methodNamed B.named B.method).1]; exact hyn
  have hl := lv_entry [.ref a, .ref (xo X), .int x1, .int x2, .int x3] (n := 5) (Nat.le_of_ble_eq_true rfl)
  rw [lg_entry_eq]
  generalize (lg_sl [Value.ref a, .ref (xo X), .int x1, .int x2, .int x3] ++ List.replicate (5 - (lg_sl [Value.ref a, .ref (xo X), .int x1, .int x2, .int x3]).length) Slot.unset).toArray = ls at hl ⊢
  let G : Gx := (p, l, e, (headSpec (ws_ y cc 5 none) (rmE f lo 2 12)).room, s, m, [Value.ref a, .ref (xo X), .int x1, .int x2, .int x3].toArray, below, meth, c, 0, 0, MQ below (fun _ st oc t => oc = .returned none ∧ (∃ b1 b2, TP X n a (E b1 b2) [b2, b1] σ t.heap) ∧ va_F (xR X) st t) [Value.ref a, .ref (xo X), .int x1, .int x2, .int x3].toArray s 2 12 (xR X), TP X n a V [], xR X)
  refine hbody G rfl ⟨B.exec, B.bytes, hml, hown, hts⟩ ⟨hK, rfl, hRn, hname, hXK⟩ rfl ?_ s.heap [] ls va_S.rf hP hl
  intro b1 b2 pc lv hd H locs ls hS hP hl
  show W p l e _ s m [Value.ref a, .ref (xo X), .int x1, .int x2, .int x3].toArray below meth c H locs 2 12 (MQ below (fun _ st oc t => oc = .returned none ∧ (∃ b1 b2, TP X n a (E b1 b2) [b2, b1] σ t.heap) ∧ va_F (xR X) st t) [Value.ref a, .ref (xo X), .int x1, .int x2, .int x3].toArray s 2 12 (xR X)) (F0 m pc ls [])
  exact ret_W (rv := none) B.exec B.bytes B.returns B.notSynchronized (fun t ht hW => ⟨rfl, ⟨b1, b2, by rw [ht]; exact hP⟩, hS.F ht⟩) hS.2.2 hd
section TrlC
variable {X : Xw} {σ : St} {n a : Nat} {V : Nat → Option Value} {G : Gx} {own : String} {cc : ByteArray} {nL pc : Nat} {lv : List (Nat × Value)} {st : List Value}
/-- the call of a trailer's constructor -/
theorem T_call (Γ : Ok G own cc nL) (Κ : KX X (gs G) ∧ gA G = xR X ∧ (∀ q : Nat, (gs G).heap.size ≤ q → xR X q) ∧ XK (gs G)) {c s index : Nat} {y : MethodName} {bytes : ByteArray} {f lo : Nat} {x1 x2 x3 : Int32} {E : Nat → Nat → Nat → Option Value} (hM : MetT (gl G) X y bytes f lo n a V x1 x2 x3 σ E) (hini : Cond.initialized y.cls ∈ lw_all) (hlk : Cond.methodLink own index y ∈ lw_all) (him : Cond.instanceMethod y ∈ lw_all) (hco : Cond.code y bytes 5 none ∈ lw_all) (hy : y.name = "<init>" ∧ y.cls ≠ "java/lang/invoke/MethodHandle" ∧ y.cls ≠ "java/lang/invoke/VarHandle" ∧ (parseMethodDescriptor y.desc).map (fun d => d.parameters.length) = some 4) (hR : f + 1 ≤ (gR G).frames ∧ 8 + (5 + 11) + lo ≤ (gR G).locals) (hkk : c + 2 ≤ (gR G).cells ∧ s + 12 ≤ (gR G).slots)
    (hW : (st.map fun v => v.category).sum ≤ 8) (d : decode cc pc = .ok (.invokespecial index, 3)) (kk : ∀ b1 b2 : Nat, At (gX G (c + 2) (s + 12) (TP X n a (E b1 b2) [b2, b1])) nL σ lv st (pc + 3)) : At (gX G c s (TP X n a V [])) nL σ lv (.int x3 :: .int x2 :: .int x1 :: .ref (xo X) :: .ref a :: st) pc := by
  intro H locs ls hS hP hl T hT X0
  have cw : CallB (gR G) (gs G) (gar G) own index y bytes 5 none (ws_ y bytes 5 none) (rmE f lo 2 12) 2 12 4 ∧ y.name = "<init>" ∧ (Cond.instanceMethod y).before (gar G) (gs G) = true := cwI 4 Γ.2.2.2.2 (lw_meth hco) rfl rfl rfl (Γ.2.2.2.2 _ hini) (Γ.2.2.2.2 _ hlk) (Γ.2.2.2.2 _ him) hy.1 hy.2 hR
  have hp : PreS (gs G) H (va_Pc [.ref a, .ref (xo X), .int x1, .int x2, .int x3] (fun U => TP X n a V [] σ U.heap ∧ KX X U ∧ XK U ∧ ∀ q : Nat, U.heap.size ≤ q → xR X q)) (.ref a :: [.ref (xo X), .int x1, .int x2, .int x3]) := ⟨fun a U g mk q => ⟨q.1, q.2.1, KX.moved (u := U) (U := U.calling g mk a) (Vm.Alike.refl U.vm) q.2.2.1, XK.same (u := U) (U := U.calling g mk a) rfl q.2.2.2.1, q.2.2.2.2⟩, fun U hU hW => ⟨rfl, by rw [hU]; exact hP, KX.moved hW.alike Κ.1, XK.warm hW Κ.2.2.2, fun q hq => Κ.2.2.1 q (Nat.le_trans hS.1 (by rw [← hU]; exact hq))⟩⟩
  obtain ⟨v, st₀, t, T', L, h0, X', hL, e1, e2, ⟨hv, ⟨b1, b2, hP1⟩, hz, hk⟩, stp⟩ := va_runI (b := a) (As := [.ref (xo X), .int x1, .int x2, .int x3]) (rest := st) Γ hM cw hp (g := F0 (gm G) pc ls (.int x3 :: .int x2 :: .int x1 :: .ref (xo X) :: .ref a :: st)) rfl rfl hl.1 rfl (lv_room (rest := st) (ls := ls) (pc := pc) (m := gm G) hW) d ⟨hkk.1, hkk.2⟩ T hT X0
  cases hv
  rw [h0] at hz hk
  obtain ⟨t2, a1, b1⟩ := kk b1 b2 T'.heap (locs ++ L) ls ⟨Nat.le_trans hS.1 (by rw [e1]; exact hz), fun q h1 h2 => by rw [e1, hk q (Nat.lt_of_lt_of_le h1 hS.1) (fun w => h2 (by show gA G q; rw [Κ.2.1]; exact w))]; exact hS.2.1 q h1 h2, fun q hq => by
      rcases List.mem_append.mp hq with h | h
      · exact hS.2.2 q h
      · show gA G _; rw [Κ.2.1]; exact hL q h⟩ (by rw [e1]; exact hP1) hl T' rfl X'
  exact ⟨t2, stp t2 a1, b1⟩
end TrlC
