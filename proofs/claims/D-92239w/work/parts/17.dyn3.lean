def kF64 (k : Nat) : Prop := k < 62 ∧ tyZ 0 k = .array .int ∧ lenZ 0 k = 64
theorem rm_cp {G : Gx} {F LO : Nat} {st : List Value} (h : Rm G F LO) (h1 : 1 ≤ F) (h0 : nativeFrameWords "java/lang/System" "arraycopy" 5 + 11 = 18) (h2 : 8 + 18 ≤ LO) (hW : (st.map fun v => v.category).sum ≤ 8 := by exact Nat.le_of_ble_eq_true rfl) : 1 ≤ (gR G).frames ∧ (st.map fun v => v.category).sum + (nativeFrameWords "java/lang/System" "arraycopy" 5 + 11) ≤ (gR G).locals := by
  rw [h0]
  exact ⟨Nat.le_trans h1 h.1, by have := h.2.1; omega⟩
section Dyn3
variable {G : Gx} {own : String} {cc : ByteArray} {nL pc : Nat} {σ σ1 : St} {lv : List (Nat × Value)} {st : List Value} {X : Xw}
theorem W_aastN {p : Program} {l : Launch} {e : Env} {R : Room} {s : State} {m : MethodId} {args : Array Value} {below : List Frame} {meth : Method} {c : Code} {H : Heap} {locs : List Loc} {cells slots : Nat} {Q : State → Prop} {cc : ByteArray} (hexec : p.tables.exec = Jvm.exec) (hb : c.code = cc) {a : Addr} {cell : Cell} {t : FieldType} {j : Int32} (hcell : H[a]? = some cell) (harr : s.isArrayOf cell (.array t)) (hknown : cell.vm ≠ .unknown) (hin : ¬ (j < 0 ∨ cell.slots.size ≤ j.toNatClampNeg))
    {g : JFrame} (hg : g.method = m) {rest : List Value} (hstack : g.stack = .null :: .int j :: .ref a :: rest) (hdg : decode cc g.pc = .ok (.aastore, 1))
    (kk : ∀ H' : Heap, H'[a]? = some (cell.setSlot j.toNatClampNeg .null) → H'.size = H.size → (∀ q, q ≠ a → H'[q]? = H[q]?) → W p l e R s m args below meth c H' (locs ++ [⟨a, j.toNatClampNeg⟩]) cells slots Q { g with pc := g.pc + 1, stack := rest }) :
    W p l e R s m args below meth c H locs cells slots Q g := by
  intro T hT X
  have hT' : T.heap[a]? = some cell := by rw [hT]; exact hcell
  have hlt : a < T.heap.size := (Array.getElem?_eq_some_iff.mp hT').1
  have hTa := State.isArrayOf_alike X.warmed.alike harr
  have hfit : T.fitsSlot cell.cls cell.vm j.toNatClampNeg .null = true := by
    obtain ⟨hobj, k, hk, comp, hkind⟩ := hTa
    cases hvm : cell.vm <;> first | exact absurd hvm (hobj _) | simp [State.fitsSlot, State.slotType?, hk, hkind, fits]
  obtain ⟨t', a1, b1⟩ := kk _ (heapAt_setCell_self _ hlt) (by rw [size_setCell, hT]) (fun q hq => by rw [heapAt_setCell_ne _ (Ne.symm hq), hT]) (T.setCell a (cell.setSlot j.toNatClampNeg .null)) rfl (X.stored hT' _ _)
  refine ⟨t', ?_, b1⟩
  subst hg
  jvm_step X.here [hexec, hb, hdg]
  refine aastore.wp_of_null (c := cell) (t := .array t) X.here.top hstack hT' hTa hin hknown (Nat.not_le.mp fun q => hin (Or.inr q)) hfit ?_
  intro acts
  rw [afterInstr_ok]
  exact a1
theorem A_tearN (Γ : Ok G own cc nL) (Ξ : OkX 0 G X) {i : Int32} {k : Nat} (hv : ixA 6 i = some k) (d : decode cc pc = .ok (.aastore, 1)) (kk : At G nL (sL σ (100 + k) none) lv st (pc + 1)) : At G nL σ lv (.null :: .int i :: .ref (xad X 5) :: st) pc := by
  intro H locs ls hS hP hl
  obtain ⟨h1, rfl, h2⟩ := ixA_in hv
  rw [Ξ.2.1] at hP
  have hc := hP.2.1 5 (by decide) rfl
  have hcz : cellZ 0 X σ 5 = arrV (xA X 4) 6 (fun j => va_rf (rk X σ (100 + j))) := rfl
  refine W_aastN (t := .int) Γ.1 Γ.2.1 hc (by rw [hcz]; exact (Ξ.1.2 4 _ rfl).1 _ _) (by rw [hcz]; exact fun q => by cases q) (by rw [hcz, arrV_size]; exact h1) rfl rfl d fun H1 e zz oq => ?_
  refine kk H1 _ ls (hS.put zz oq (by rw [Ξ.2.2.1]; exact (hP.2.2.2.2.1 5 (Or.inl ⟨by decide, rfl⟩)).1)) ?_ hl
  rw [Ξ.2.1]
  exact hP.tear h2 e oq
end Dyn3
