/-! the law: its script, its own end -/
def R_law : String := "TrailerYardsLaw"
def lvi (i : Nat) (X0 X1 : Xw) (b : Nat) : List (Nat × Value) := [(3, .int (nI i)), (2, .ref (xo X1)), (1, .ref (xo X0)), (0, .ref b)]
def LC (G : Gx) (b L : Nat) (xs : Nat → Int32) : Prop := va_X b L xs (gs G) (gs G).heap ∧ b < (gs G).heap.size ∧ L ≤ 448 ∧ gA G = rA G
section LS
variable {G : Gx} {own0 : String} {cc : ByteArray} {nL pc : Nat} {σ : St} {lv : List (Nat × Value)} {st : List Value} {b L : Nat} {xs : Nat → Int32} {k n : Nat} {P : St → Heap → Prop}
theorem L_sld (Γ : Ok G own0 cc nL) (C : LC G b L xs) {q : Nat} (hq : q < L) (d : decode cc pc = .ok (.iaload, 1)) (kk : At (gX G k n P) nL σ lv (.int (xs q) :: st) (pc + 1)) : At (gX G k n P) nL σ lv (.int (nI q) :: .ref b :: st) pc := by
  intro H locs ls hS hP hl
  have hc : (nI q).toNatClampNeg = q := nI_clamp (by have := C.2.2.1; omega)
  have h := kk H locs ls hS hP hl
  refine va_sld Γ.1 Γ.2.1 C.1 C.2.1 (A := rA G) (fun w => by have : (gs G).heap.size ≤ b := w; have := C.2.1; omega) (by rw [← C.2.2.2]; exact hS) (i := nI q) ?_ d (by rw [hc]; exact h)
  intro w
  rcases w with w | w
  · exact nI_pos (by have := C.2.2.1; omega) w
  · rw [hc] at w; omega
theorem L_slen (Γ : Ok G own0 cc nL) (C : LC G b L xs) (d : decode cc pc = .ok (.arraylength, 1)) (kk : At (gX G k n P) nL σ lv (.int (nI L) :: st) (pc + 1)) : At (gX G k n P) nL σ lv (.ref b :: st) pc := by
  intro H locs ls hS hP hl
  exact va_slen Γ.1 Γ.2.1 C.1 C.2.1 (A := rA G) (fun w => by have : (gs G).heap.size ≤ b := w; have := C.2.1; omega) (by rw [← C.2.2.2]; exact hS) d (kk H locs ls hS hP hl)
theorem L_arg {X0 X1 : Xw} {i : Nat} (Γ : Ok G own0 cc 4) (C : LC G b L xs) {j : Nat} {m : Int} (hm : Int32.ofInt m = nI j) (hq : i + j < L) (d1 : decode cc pc = .ok (.aload_n 0, 1)) (d2 : decode cc (pc + 1) = .ok (.iload_n 3, 1)) (d3 : decode cc (pc + 1 + 1) = .ok (.iconst m, 1)) (d4 : decode cc (pc + 1 + 1 + 1) = .ok (.iadd, 1)) (d5 : decode cc (pc + 1 + 1 + 1 + 1) = .ok (.iaload, 1)) (kk : At (gX G k n P) 4 σ (lvi i X0 X1 b) (.int (xs (i + j)) :: st) (pc + 1 + 1 + 1 + 1 + 1)) : At (gX G k n P) 4 σ (lvi i X0 X1 b) st pc := by
  have Γ1 : Ok (gX G k n P) own0 cc 4 := Γ
  refine A_aload_n Γ1 d1 3 rfl ?_
  refine A_iload_n Γ1 d2 0 rfl ?_
  refine A_iconst (v := nI j) Γ1 d3 hm ?_
  refine A_iadd Γ1 d4 ?_
  rw [nI_add]
  exact L_sld Γ C hq d5 kk
theorem L_argB {X0 X1 : Xw} {i : Nat} (Γ : Ok G own0 cc 4) (C : LC G b L xs) {j : Nat} {m : Int} (hm : (Int8.ofInt m).toInt32 = nI j) (hq : i + j < L) (d1 : decode cc pc = .ok (.aload_n 0, 1)) (d2 : decode cc (pc + 1) = .ok (.iload_n 3, 1)) (d3 : decode cc (pc + 1 + 1) = .ok (.bipush m, 2)) (d4 : decode cc (pc + 1 + 1 + 2) = .ok (.iadd, 1)) (d5 : decode cc (pc + 1 + 1 + 2 + 1) = .ok (.iaload, 1)) (kk : At (gX G k n P) 4 σ (lvi i X0 X1 b) (.int (xs (i + j)) :: st) (pc + 1 + 1 + 2 + 1 + 1)) : At (gX G k n P) 4 σ (lvi i X0 X1 b) st pc := by
  have Γ1 : Ok (gX G k n P) own0 cc 4 := Γ
  refine A_aload_n Γ1 d1 3 rfl ?_
  refine A_iload_n Γ1 d2 0 rfl ?_
  refine A_bipush (v := nI j) Γ1 d3 hm ?_
  refine A_iadd Γ1 d4 ?_
  rw [nI_add]
  exact L_sld Γ C hq d5 kk
theorem L_up (kk : At (gX G (k + 3) (n + 2010) P) nL σ lv st pc) : At (gX G k n P) nL σ lv st pc := A_up (G := gX G k n P) (k := k + 3) (n := n + 2010) (by show k ≤ k + 3; omega) (by show n ≤ n + 2010; omega) kk
theorem lcmp_0 (x : Int64) : lg_cmp x x = 0 := by
  unfold lg_cmp
  simp
end LS
