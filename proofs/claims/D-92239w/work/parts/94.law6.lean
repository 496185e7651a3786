/-! the law: its start -/
theorem dfl_ok : (∀ k, k < 62 → (match tyZ 0 k with | .int => true | .boolean => true | .long => true | .array _ => true | _ => false) = true) ∧ ∀ k, k < 73 → (match tyZ 1 k with | .int => true | .boolean => true | .long => true | .array _ => true | _ => false) = true := by decide +kernel
theorem dfv_0 {z k : Nat} {X : Xw} (h : (match tyZ z k with | .int => true | .boolean => true | .long => true | .array _ => true | _ => false) = true) : defaultValue (tyZ z k) = dfv z X st0 [] k := by
  unfold dfv fv isA
  cases ht : tyZ z k with
  | array t => rw [if_pos ⟨rfl, List.not_mem_nil⟩]; rfl
  | int => rw [if_neg (fun w => by cases w.1)]; rfl
  | boolean => rw [if_neg (fun w => by cases w.1)]; rfl
  | long => rw [if_neg (fun w => by cases w.1)]; rfl
  | _ => rw [ht] at h; cases h
section Mk0
variable {G : Gx} {own0 : String} {cc : ByteArray} {nL pc : Nat} {σ σ' : St} {lv : List (Nat × Value)} {st : List Value} {X : Xw} {c n z : Nat} {P : St → Heap → Prop}
/-- a new object, all its fields as they are born -/
def NP (z : Nat) (X : Xw) (P : St → Heap → Prop) (Ow : Nat → Prop) (A : Nat → Prop) (o : Nat) (σ : St) (H : Heap) : Prop := P σ H ∧ t_OB o (xC X z) (NZ z) (xI X z) H (dfv z X st0 []) ∧ A o ∧ ∀ q, Ow q → q ≠ o
theorem L_new (Γ : Ok G own0 cc nL) (hK : KX X (gs G)) (hgA : gA G = rA G) (Ow : Nat → Prop) (hk : ∀ H H1 : Heap, (∀ q : Nat, q < H.size → H1[q]? = H[q]?) → P σ H → P σ H1) (hO : ∀ H q, P σ H → Ow q → q < H.size) (hin : ∀ w ∈ u_ws (RZ z) (TZ z) (NZ z), w ∈ lw_all) (hc : vwCl[z]? = some (RZ z, TZ z, NZ z)) (hty : ∀ k, k < NZ z → parseFieldDescriptor (TZ z k).2.2.1 = some (tyZ z k)) (hdf : ∀ k, k < NZ z → (match tyZ z k with | .int => true | .boolean => true | .long => true | .array _ => true | _ => false) = true) {index : Nat} (hcl : Cond.classLink own0 index (RZ z) ∈ lw_all) (hinst : Cond.instantiable (RZ z) (NZ z) ∈ lw_all) (hini : Cond.initialized (RZ z) ∈ lw_all) (hcc : c + 1 ≤ (gR G).cells) (hss : n + NZ z ≤ (gR G).slots) (d : decode cc pc = .ok (.new index, 3))
    (kk : ∀ o : Nat, At (gX G (c + 1) (n + NZ z) (NP z X P Ow (rA G) o)) nL σ lv (.ref o :: st) (pc + 3)) : At (gX G c n P) nL σ lv st pc := by
  intro H locs ls hS hP hl
  have hP0 : P σ H := hP
  have hKn := hK.1 z _ hc
  refine W.newcK Γ.1 Γ.2.1 Γ.2.2.2.1 (Γ.2.2.2.2 _ hcl) (Γ.2.2.2.2 _ hinst) (Γ.2.2.2.2 _ hini) (g := F0 (gm G) pc ls st) rfl d hcc hss hKn.2.1 rfl fun H1 kC hkC e1 z1 o1 => ?_
  have hb := (u_born (tyZ z) Γ.2.2.2.2 hin hKn hkC e1 hty).to (fun k hk => dfv_0 (X := X) (hdf k hk))
  exact kk H.size H1 locs ls ⟨Nat.le_trans hS.1 (by omega), fun b g1 g2 => (o1 b (Nat.lt_of_lt_of_le g1 hS.1)).trans (hS.2.1 b g1 g2), hS.2.2⟩ ⟨hk H H1 o1 hP0, hb, hS.1, fun q hq => by have := hO H q hP0 hq; omega⟩ hl
/-- its constructor -/
theorem L_init (Γ : Ok G own0 cc nL) (hK : KX X (gs G)) (hXK : XK (gs G)) (hXO : XO (gs G)) (hgA : gA G = rA G) {Ow : Nat → Prop} {o index mc ms : Nat} {y : MethodName} {bytes : ByteArray} {σz : St} (hM : ∀ Y : Xw, MetC z (gl G) Y y bytes 2 1 20 mc ms σz) (hini : Cond.initialized y.cls ∈ lw_all) (hlk : Cond.methodLink own0 index y ∈ lw_all) (him : Cond.instanceMethod y ∈ lw_all) (hco : Cond.code y bytes 2 none ∈ lw_all) (hy : y.name = "<init>" ∧ y.cls ≠ "java/lang/invoke/MethodHandle" ∧ y.cls ≠ "java/lang/invoke/VarHandle" ∧ (parseMethodDescriptor y.desc).map (fun d => d.parameters.length) = some 0) (hR : 2 ≤ (gR G).frames ∧ 41 ≤ (gR G).locals) (hkk : c + mc ≤ (gR G).cells ∧ n + ms ≤ (gR G).slots) (hW : (st.map fun v => v.category).sum ≤ 8) (d : decode cc pc = .ok (.invokespecial index, 3)) {P' : (Nat → Nat) → St → Heap → Prop}
    (hpost : ∀ (H H' : Heap) (ad : Nat → Nat), P σ H → rA G o → (∀ q, Ow q → q ≠ o) → (gs G).heap.size ≤ H.size → H.size ≤ H'.size → (∀ q : Nat, q < H.size → q ≠ o → H'[q]? = H[q]?) → Pic z (o, ad, xC X, xI X, xA X, fun q => q = o ∨ H.size ≤ q) σz H' → P' ad σ' H')
    (kk : ∀ ad : Nat → Nat, At (gX G (c + mc) (n + ms) (P' ad)) nL σ' lv st (pc + 3)) : At (gX G c n (NP z X P Ow (rA G) o)) nL σ lv (.ref o :: st) pc := by
  intro H locs ls hS hP hl T hT Xs
  obtain ⟨hP0, hob, hAo, hOw⟩ : NP z X P Ow (rA G) o σ H := hP
  have cw : CallB (gR G) (gs G) (gar G) own0 index y bytes 2 none (ws_ y bytes 2 none) (rmE 1 20 mc ms) mc ms 0 ∧ y.name = "<init>" ∧ (Cond.instanceMethod y).before (gar G) (gs G) = true := cwI 0 Γ.2.2.2.2 (lw_meth hco) rfl rfl rfl (Γ.2.2.2.2 _ hini) (Γ.2.2.2.2 _ hlk) (Γ.2.2.2.2 _ him) hy.1 hy.2 ⟨hR.1, hR.2⟩
  have hp : PreS (gs G) H (va_Pc [.ref o] (fun U => t_OB o (xC X z) (NZ z) (xI X z) U.heap (dfv z (o, xad X, xC X, xI X, xA X, fun q => q = o ∨ H.size ≤ q) st0 []) ∧ KX X U ∧ XK U ∧ XO U ∧ (o = o ∨ H.size ≤ o) ∧ ∀ q : Nat, U.heap.size ≤ q → (q = o ∨ H.size ≤ q))) (.ref o :: []) := ⟨fun a U g mk q => ⟨q.1, q.2.1, KX.moved (u := U) (U := U.calling g mk a) (Vm.Alike.refl U.vm) q.2.2.1, XK.same (u := U) (U := U.calling g mk a) rfl q.2.2.2.1, XO.moved (u := U) (U := U.calling g mk a) (Vm.Alike.refl U.vm) q.2.2.2.2.1, q.2.2.2.2.2⟩, fun U hU hW => ⟨rfl, by rw [hU]; exact hob, KX.moved hW.alike hK, XK.warm hW hXK, XO.moved hW.alike hXO, Or.inl rfl, fun q hq => Or.inr (by rw [hU] at hq; exact hq)⟩⟩
  obtain ⟨v, st₀, t, T', L, h0, X', hL, e1, e2, ⟨hv, ⟨ad, hP1⟩, hz, hkF⟩, stp⟩ := va_runI (b := o) (As := []) (rest := st) Γ (hM (o, xad X, xC X, xI X, xA X, fun q => q = o ∨ H.size ≤ q)) cw hp (g := F0 (gm G) pc ls (.ref o :: st)) rfl rfl hl.1 rfl (lv_room (rest := st) (ls := ls) (pc := pc) (m := gm G) hW) d ⟨hkk.1, hkk.2⟩ T hT Xs
  cases hv
  rw [h0] at hz hkF
  have hin : ∀ q, (q = o ∨ H.size ≤ q) → rA G q := fun q hq => by
    rcases hq with g | g
    · rw [g]; exact hAo
    · exact Nat.le_trans hS.1 g
  obtain ⟨t2, a1, b1⟩ := kk ad T'.heap (locs ++ L) ls ⟨Nat.le_trans hS.1 (by rw [e1]; exact hz), fun q g1 g2 => by rw [e1, hkF q (Nat.lt_of_lt_of_le g1 hS.1) (fun w => g2 (by show gA G q; rw [hgA]; exact hin q w))]; exact hS.2.1 q g1 g2, fun q hq => by
      rcases List.mem_append.mp hq with h | h
      · exact hS.2.2 q h
      · show gA G _; rw [hgA]; exact hin _ (hL q h)⟩ (by
      show P' ad σ' T'.heap
      rw [e1]
      exact hpost H t.heap ad hP0 hAo hOw hS.1 hz (fun q g1 g2 => hkF q g1 (fun w => by
        rcases w with w | w
        · exact g2 w
        · omega)) hP1) hl T' rfl X'
  exact ⟨t2, stp t2 a1, b1⟩
end Mk0
