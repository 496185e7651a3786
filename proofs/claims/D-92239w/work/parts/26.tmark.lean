/-! Rented.mark: days since the first entry -/
section TS
variable {G : Gx} {own : String} {cc : ByteArray} {nL pc : Nat} {σ : St} {lv : List (Nat × Value)} {st : List Value} {X : Xw} {q n : Nat} {v : Value}
/-- a trailer's inherited field under the name by which javac spells it -/
theorem A_getTS (Γ : Ok G own cc nL) (Ξ : OkX 0 G X) (hq : kTr q) (hv : v = .ref (xad X q)) {f index : Nat} {ref decl name desc : String} {w : Value} {C : Nat → Prop} (hT : ∀ n, n < 4 → C n → f < NT n ∧ (TT n f).1 = decl ∧ (TT n f).2.1 = name ∧ (TT n f).2.2.1 = desc) (hlink : Cond.fieldLink own index ref name desc ∈ lw_all) (hsame : Cond.sameField ref decl name desc ∈ lw_all) (hL : cL σ q = some n) (hok : C n) (hw : tv X σ q n f = w) (d : decode cc pc = .ok (.getfield index, 3)) (kk : At G nL σ lv (w :: st) (pc + 3)) : At G nL σ lv (v :: st) pc := by
  intro H locs ls hS hP hl
  subst hv
  have hP0 := hP
  rw [Ξ.2.1] at hP
  obtain ⟨hn4, cell, q1, q2, q3, q4⟩ := (hP.2.2.1 rfl q n (by have := hq.1; omega) hL).2.2 hq.1 hq.2
  obtain ⟨hfN, rfl, rfl, rfl⟩ := hT n hn4 hok
  obtain ⟨hSl, hfc, kC, hkC, hkind⟩ := Ξ.1.1 (2 + n) _ (vwT n hn4)
  obtain ⟨cf, kf, fi, fd, hi, hsl⟩ := hSl f hfN
  refine W.getf Γ.1 Γ.2.1 Γ.2.2.2.1 (Γ.2.2.2.2 _ hlink) (u_same (Γ.2.2.2.2 _ hsame) _ hi) (u_facts hfc hkC (u_lays Γ.2.2.2.2 (in_T n hn4) hfN) hi).1 q1 (by rw [q3]; exact fun h => by cases h) (v := w) ?_ rfl rfl d (kk H locs ls hS hP0 hl)
  rw [hsl, q4 f hfN, hw]
end TS
noncomputable def tr_mark (σ : St) (q : Nat) : Option Int32 :=
  B1 (c_entryOf σ (cA σ q 0) 0) fun e =>
  B1 (rdA 60 σ 25 e) fun m =>
  some ((cI σ 11 / 1440) - (m / 1440))
theorem mtX4_mark (l : Launch) (X : Xw) {σ : St} {q : Nat} {r : Int32} (hq : kTr q) (hL : cL σ q = some 2) (h : tr_mark σ q = some r) : MetZ 0 l X yX4_mark cX4_mark 1 (some .int) 1 24 [.ref (xad X q)] σ (some (.int r)) σ := MetZ.ofAt (by decide) (Nat.le_of_ble_eq_true rfl) (fun G _ Γ Ξ hRm hret => by
  rw [tr_mark] at h
  replace h := b1 h
  obtain ⟨e, e1, h⟩ := h
  replace h := b1 h
  obtain ⟨m, e2, h⟩ := h
  obtain rfl := inj1 h
  refine A_aload_n Γ dX4_mark_0 0 rfl ?_
  refine gOX4 Γ Ξ hq rfl hL dX4_mark_1 ?_
  refine gNX4_11 Γ Ξ dX4_mark_4 ?_
  refine A_sipush (v := 1440) Γ dX4_mark_7 (by decide) ?_
  refine A_idiv Γ dX4_mark_10 (by decide) ?_
  refine A_aload_n Γ dX4_mark_11 0 rfl ?_
  refine gOX4 Γ Ξ hq rfl hL dX4_mark_12 ?_
  refine gNX4_25 Γ Ξ dX4_mark_15 ?_
  refine A_aload_n Γ dX4_mark_18 0 rfl ?_
  refine gOX4 Γ Ξ hq rfl hL dX4_mark_19 ?_
  refine A_aload_n Γ dX4_mark_22 0 rfl ?_
  refine A_getTS Γ Ξ hq rfl (f := 0) (C := fun n => n = 2) (w := .int (cA σ q 0)) (n4 (by decide) (by decide) (by decide) (by decide)) q563 q564 hL rfl rfl dX4_mark_23 ?_
  refine A_iconst (v := 0) Γ dX4_mark_26 (by decide) ?_
  refine A_callN (As := [.int (cA σ q 0), .int 0]) Γ Ξ (mtX0_entryOf (gl G) X e1) ⟨va_cnB 2 Γ.2.2.2.2 (lw_meth q746) rfl rfl rfl (Ξ.2.2.2.1 _ (List.mem_of_getElem? (i := 4) rfl)) (Γ.2.2.2.2 _ q63) (by decide +kernel) (rm_ok hRm (by decide) (by decide)), Γ.2.2.2.2 _ q745, Γ.2.2.2.2 _ qs10⟩ (rm_k hRm) rfl rfl (Nat.le_of_ble_eq_true rfl) dX4_mark_27 ?_
  refine r0_25 Γ Ξ e2 dX4_mark_30 ?_
  refine A_sipush (v := 1440) Γ dX4_mark_31 (by decide) ?_
  refine A_idiv Γ dX4_mark_34 (by decide) ?_
  refine A_isub Γ dX4_mark_35 ?_
  exact hret _ _ dX4_mark_36)
