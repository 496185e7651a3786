/-! what comes and goes in the class's world: rows, texts, trailers -/
def ixA (n : Nat) (i : Int32) : Option Nat := if i < 0 ∨ n ≤ i.toNatClampNeg then none else some i.toNatClampNeg
def ixD (σ : St) (b n : Nat) (i : Int32) : Option Nat := (ixA n i).bind fun k => if (cL σ (b + k)).isSome = true then some k else none
def kInt (q : Nat) : Prop := 100 ≤ q ∧ (q < 110 ∨ 140 ≤ q)
def kByte (q : Nat) : Prop := 110 ≤ q ∧ q < 120
def kTr (q : Nat) : Prop := 120 ≤ q ∧ q < 140
def okT (n f : Nat) : Bool := decide (f < 8) || (f == 11 && (n == 1 || n == 3)) || (f == 13 && n == 3)
def rdT (σ : St) (q f : Nat) : Option Int32 := (cL σ q).bind fun n => if okT n f = true then some (cA σ q f) else none
def wrT (σ : St) (q f : Nat) (v : Int32) : Option St := (cL σ q).bind fun n => if okT n f = true then some (sA σ q f v) else none
theorem ixA_in {n : Nat} {i : Int32} {k : Nat} (h : ixA n i = some k) : vp_in i n ∧ k = i.toNatClampNeg ∧ k < n := by
  unfold ixA at h
  split at h
  · cases h
  · rename_i hn
    have h1 := Option.some.inj h
    exact ⟨hn, h1.symm, by rw [← h1]; exact Nat.not_le.mp fun q => hn (Or.inr q)⟩
theorem ixD_in {σ : St} {b n : Nat} {i : Int32} {k : Nat} (h : ixD σ b n i = some k) : ixA n i = some k ∧ (cL σ (b + k)).isSome = true := by
  unfold ixD at h
  cases hx : ixA n i with
  | none => rw [hx] at h; cases h
  | some j =>
    rw [hx] at h
    have h : (if (cL σ (b + j)).isSome = true then some j else none) = some k := h
    split at h
    · cases h; exact ⟨rfl, ‹_›⟩
    · cases h
theorem ixA_nI {n j : Nat} (h : j < n) (hn : n < 2 ^ 31) : ixA n (nI j) = some j := by
  unfold ixA
  rw [if_neg (nI_in h hn), nI_clamp (by omega)]
theorem ixD_nI {σ : St} {b n j : Nat} (h : j < n) (hn : n < 2 ^ 31) (hc : (cL σ (b + j)).isSome = true) : ixD σ b n (nI j) = some j := by
  unfold ixD
  rw [ixA_nI h hn]
  exact if_pos hc
theorem rdT_in {σ : St} {q f : Nat} {v : Int32} (h : rdT σ q f = some v) : ∃ n, cL σ q = some n ∧ okT n f = true ∧ v = cA σ q f := by
  unfold rdT at h
  cases hc : cL σ q with
  | none => rw [hc] at h; cases h
  | some n =>
    rw [hc] at h
    have h : (if okT n f = true then some (cA σ q f) else none) = some v := h
    split at h
    · cases h; exact ⟨n, rfl, ‹_›, rfl⟩
    · cases h
theorem wrT_in {σ σ1 : St} {q f : Nat} {v : Int32} (h : wrT σ q f v = some σ1) : ∃ n, cL σ q = some n ∧ okT n f = true ∧ σ1 = sA σ q f v := by
  unfold wrT at h
  cases hc : cL σ q with
  | none => rw [hc] at h; cases h
  | some n =>
    rw [hc] at h
    have h : (if okT n f = true then some (sA σ q f v) else none) = some σ1 := h
    split at h
    · cases h; exact ⟨n, rfl, ‹_›, rfl⟩
    · cases h
theorem kInt_row {i : Int32} {k : Nat} (h : ixA 6 i = some k) : kInt (100 + k) := by have := (ixA_in h).2.2; exact ⟨by omega, Or.inl (by omega)⟩
theorem kByte_text {i : Int32} {k : Nat} (h : ixA 4 i = some k) : kByte (110 + k) := by have := (ixA_in h).2.2; exact ⟨by omega, by omega⟩
theorem kTr_t {i : Int32} {k : Nat} (h : ixA 12 i = some k) : kTr (120 + k) := by have := (ixA_in h).2.2; exact ⟨by omega, by omega⟩
theorem kInt_rowD {σ : St} {i : Int32} {k : Nat} (h : ixD σ 100 6 i = some k) : kInt (100 + k) := kInt_row (ixD_in h).1
theorem kByte_textD {σ : St} {i : Int32} {k : Nat} (h : ixD σ 110 4 i = some k) : kByte (110 + k) := kByte_text (ixD_in h).1
theorem kTr_tD {σ : St} {i : Int32} {k : Nat} (h : ixD σ 120 12 i = some k) : kTr (120 + k) := kTr_t (ixD_in h).1
theorem kInt_w {q : Nat} (h : kTr q) : kInt (q + 20) := ⟨by have := h.1; omega, Or.inr (by have := h.1; omega)⟩
theorem kInt_p {q : Nat} (h : kTr q) : kInt (q + 40) := ⟨by have := h.1; omega, Or.inr (by have := h.1; omega)⟩
theorem rk_t {X : Xw} {σ : St} {q : Nat} (c : (cL σ q).isSome = true) : va_rf (rk X σ q) = .ref (xad X q) := by unfold rk; rw [if_pos c]; rfl
theorem rk_f {X : Xw} {σ : St} {q : Nat} (c : ¬ (cL σ q).isSome = true) : va_rf (rk X σ q) = .null := by unfold rk; rw [if_neg c]; rfl
theorem some_is {α : Type} {x : Option α} {a : α} (h : x = some a) : x.isSome = true := by rw [h]; rfl
/-- one cell that comes and goes changes its contents -/
theorem Pic.upD {X : Xw} {σ σ' : St} {H H1 : Heap} {q n : Nat} (h : Pic 0 X σ H) (hq : 100 ≤ q) (hL : cL σ q = some n) (e : dynAt X σ' q n H1) (oq : ∀ a : Nat, a ≠ xad X q → H1[a]? = H[a]?) (h1 : ∀ j, fv 0 X σ' j = fv 0 X σ j) (h2 : ∀ j, j < 100 → cellZ 0 X σ' j = cellZ 0 X σ j) (hC : ∀ j, cL σ' j = cL σ j) (h3 : ∀ j, j ≠ q → cA σ' j = cA σ j) : Pic 0 X σ' H1 := by
  have hlk : live 0 σ q := Or.inr ⟨rfl, hq, by rw [hL]; rfl⟩
  have hv : ∀ j, live 0 σ' j → live 0 σ j := fun j hj => by
    rcases hj with g | ⟨a, b, c⟩
    · exact Or.inl g
    · exact Or.inr ⟨a, b, by rw [← hC]; exact c⟩
  obtain ⟨g1, g2, g3, g4, g5, g6⟩ := h
  have ne : ∀ j, live 0 σ j → j ≠ q → xad X j ≠ xad X q := fun j hj hn w => hn (g4 j q hj hlk w)
  refine ⟨?_, fun j a b => ?_, fun a j m b c => ?_, fun i j hi hj => g4 i j (hv i hi) (hv j hj), fun j hj => g5 j (hv j hj), g6⟩
  · exact (g1.kept (oq _ (fun w => (g5 q hlk).2 w.symm))).to (fun j _ => (h1 j).symm)
  · have hz : j < 62 := a
    rw [h2 j (by omega), oq _ (ne j (Or.inl ⟨a, b⟩) (by omega))]
    exact g2 j a b
  · rw [hC] at c
    by_cases hj : j = q
    · subst hj
      rw [hL] at c
      cases c
      exact e
    · have hv1 : live 0 σ j := Or.inr ⟨a, b, by rw [c]; rfl⟩
      exact (g3 a j m b c).kept (oq _ (ne j hv1 hj)) (h3 j hj)
theorem cellZ_dyn {X : Xw} {σ : St} {q i : Nat} {v : Int32} (hq : 100 ≤ q) (j : Nat) (hj : j < 100) : cellZ 0 X (sA σ q i v) j = cellZ 0 X σ j := cellZ_ne (by omega)
theorem t_set1 {cell : Cell} {N : Nat} {iS : Nat → Nat} {V : Nat → Value} (h : ∀ k, k < N → cell.slots[iS k]? = some (V k)) {k : Nat} (hap : ∀ b, b < N → b ≠ k → iS b ≠ iS k) (hk : k < N) (v : Value) : ∀ j, j < N → (cell.setSlot (iS k) v).slots[iS j]? = some (updV V k v j) := by
  intro j hj
  have hlt : iS k < cell.slots.size := (Array.getElem?_eq_some_iff.mp (h k hk)).1
  show (cell.slots.setIfInBounds (iS k) v)[iS j]? = _
  unfold updV
  by_cases e : j = k
  · subst e
    rw [if_pos rfl]
    simp [Array.getElem?_setIfInBounds, hlt]
  · rw [if_neg e]
    have h1 := hap j hj e
    simp [Array.getElem?_setIfInBounds, Ne.symm h1, h j hj]
def CT (n : Nat) : String := match n with
  | 0 => RX2
  | 1 => RX3
  | 2 => RX4
  | _ => RX5
def TT (n : Nat) : u_T := match n with
  | 0 => TX2
  | 1 => TX3
  | 2 => TX4
  | _ => TX5
def tyT (n : Nat) : Nat → FieldType := match n with
  | 0 => tyX2
  | 1 => tyX3
  | 2 => tyX4
  | _ => tyX5
theorem n4 {P : Nat → Prop} (h0 : P 0) (h1 : P 1) (h2 : P 2) (h3 : P 3) : ∀ n, n < 4 → P n := fun n hn => by
  match n, hn with
  | 0, _ => exact h0
  | 1, _ => exact h1
  | 2, _ => exact h2
  | 3, _ => exact h3
theorem vwT : ∀ n, n < 4 → vwCl[2 + n]? = some (CT n, TT n, NT n) := n4 rfl rfl rfl rfl
theorem in_T : ∀ n, n < 4 → ∀ w ∈ u_ws (CT n) (TT n) (NT n), w ∈ lw_all := n4 in_X2 in_X3 in_X4 in_X5
theorem ty_T : ∀ n, n < 4 → ∀ k, k < NT n → parseFieldDescriptor (TT n k).2.2.1 = some (tyT n k) := n4 tyX2_ok tyX3_ok tyX4_ok tyX5_ok
section Dyn
variable {G : Gx} {own : String} {cc : ByteArray} {nL pc : Nat} {σ σ1 σ0 : St} {lv lv' : List (Nat × Value)} {st : List Value} {X : Xw} {q n : Nat} {v : Value}
/-- an element of rows (4, 100), texts (5, 110), trailers (6, 120) -/
theorem A_aald (Γ : Ok G own cc nL) (Ξ : OkX 0 G X) {k b N t : Nat} {ty : FieldType} {i : Int32} {j : Nat} (hk : k < 62) (ha : isA (tyZ 0 k) = true) (hc : cellZ 0 X σ k = arrV (xA X t) N (fun j => va_rf (rk X σ (b + j)))) (ht : (tysX X)[t]? = some (xA X t, ty)) (hr : ty.isReference = true) (hv : ixA N i = some j) (d : decode cc pc = .ok (.aaload, 1)) (kk : At G nL σ lv (va_rf (rk X σ (b + j)) :: st) (pc + 1)) : At G nL σ lv (.int i :: .ref (xad X k) :: st) pc := by
  intro H locs ls hS hP hl
  obtain ⟨h1, rfl, h2⟩ := ixA_in hv
  have hP0 := hP
  rw [Ξ.2.1] at hP
  have hcell := hP.2.1 k hk ha
  rw [hc] at hcell
  exact W.aald (v := va_rf (rk X σ (b + i.toNatClampNeg))) (ty := ty) Γ.1 Γ.2.1 hcell ((Ξ.1.2 t _ ht).1 _ _) hr (fun w => by cases w) (by rw [arrV_size]; exact h1) (arrV_read _ _ h2) rfl rfl d (kk H locs ls hS hP0 hl)
theorem A_rows (Γ : Ok G own cc nL) (Ξ : OkX 0 G X) {i : Int32} {j : Nat} (hv : ixA 6 i = some j) (d : decode cc pc = .ok (.aaload, 1)) (kk : At G nL σ lv (va_rf (rk X σ (100 + j)) :: st) (pc + 1)) : At G nL σ lv (.int i :: .ref (xad X 5) :: st) pc := A_aald Γ Ξ (t := 4) (by decide) rfl rfl rfl rfl hv d kk
theorem A_texts (Γ : Ok G own cc nL) (Ξ : OkX 0 G X) {i : Int32} {j : Nat} (hv : ixA 4 i = some j) (d : decode cc pc = .ok (.aaload, 1)) (kk : At G nL σ lv (va_rf (rk X σ (110 + j)) :: st) (pc + 1)) : At G nL σ lv (.int i :: .ref (xad X 6) :: st) pc := A_aald Γ Ξ (t := 5) (by decide) rfl rfl rfl rfl hv d kk
theorem A_trs (Γ : Ok G own cc nL) (Ξ : OkX 0 G X) {i : Int32} {j : Nat} (hv : ixA 12 i = some j) (d : decode cc pc = .ok (.aaload, 1)) (kk : At G nL σ lv (va_rf (rk X σ (120 + j)) :: st) (pc + 1)) : At G nL σ lv (.int i :: .ref (xad X 18) :: st) pc := A_aald Γ Ξ (t := 6) (by decide) rfl rfl rfl rfl hv d kk
theorem A_rowsD (Γ : Ok G own cc nL) (Ξ : OkX 0 G X) {i : Int32} {j : Nat} (hv : ixD σ 100 6 i = some j) (d : decode cc pc = .ok (.aaload, 1)) (kk : At G nL σ lv (.ref (xad X (100 + j)) :: st) (pc + 1)) : At G nL σ lv (.int i :: .ref (xad X 5) :: st) pc := A_rows Γ Ξ (ixD_in hv).1 d (by rw [rk_t (ixD_in hv).2]; exact kk)
theorem A_textsD (Γ : Ok G own cc nL) (Ξ : OkX 0 G X) {i : Int32} {j : Nat} (hv : ixD σ 110 4 i = some j) (d : decode cc pc = .ok (.aaload, 1)) (kk : At G nL σ lv (.ref (xad X (110 + j)) :: st) (pc + 1)) : At G nL σ lv (.int i :: .ref (xad X 6) :: st) pc := A_texts Γ Ξ (ixD_in hv).1 d (by rw [rk_t (ixD_in hv).2]; exact kk)
theorem A_trsD (Γ : Ok G own cc nL) (Ξ : OkX 0 G X) {i : Int32} {j : Nat} (hv : ixD σ 120 12 i = some j) (d : decode cc pc = .ok (.aaload, 1)) (kk : At G nL σ lv (.ref (xad X (120 + j)) :: st) (pc + 1)) : At G nL σ lv (.int i :: .ref (xad X 18) :: st) pc := A_trs Γ Ξ (ixD_in hv).1 d (by rw [rk_t (ixD_in hv).2]; exact kk)
theorem A_ifnonnull (Γ : Ok G own cc nL) {off : Int} {t : Nat} (d : decode cc pc = .ok (.ifnonnull off, 3)) (ht : (pc : Int) + off = (t : Int)) (kt : (cL σ0 q).isSome = true → At G nL σ lv st t) (kf : ¬ (cL σ0 q).isSome = true → At G nL σ lv st (pc + 3)) : At G nL σ lv (va_rf (rk X σ0 q) :: st) pc := by
  intro H locs ls hS hP hl
  by_cases c : (cL σ0 q).isSome = true
  · rw [rk_t c]
    exact lv_ifnonnull Γ.1 Γ.2.1 d ht (kt c H locs ls hS hP hl)
  · rw [rk_f c]
    exact lv_ifnonnullN Γ.1 Γ.2.1 d (kf c H locs ls hS hP hl)
theorem A_ifnull (Γ : Ok G own cc nL) {off : Int} {t : Nat} (d : decode cc pc = .ok (.ifnull off, 3)) (ht : (pc : Int) + off = (t : Int)) (kt : ¬ (cL σ0 q).isSome = true → At G nL σ lv st t) (kf : (cL σ0 q).isSome = true → At G nL σ lv st (pc + 3)) : At G nL σ lv (va_rf (rk X σ0 q) :: st) pc := by
  intro H locs ls hS hP hl
  by_cases c : (cL σ0 q).isSome = true
  · rw [rk_t c]
    exact lv_ifnull Γ.1 Γ.2.1 d (kf c H locs ls hS hP hl)
  · rw [rk_f c]
    exact lv_ifnullN Γ.1 Γ.2.1 d ht (kt c H locs ls hS hP hl)
/-- a reference in a local, null or not -/
theorem A_aloadO_n (Γ : Ok G own cc nL) {n : Fin 4} (d : decode cc pc = .ok (.aload_n n, 1)) (j : Nat) (h : lv[j]? = some ((n : Nat), va_rf (rk X σ0 q))) (k : At G nL σ lv (va_rf (rk X σ0 q) :: st) (pc + 1)) : At G nL σ lv st pc := by
  intro H locs ls hS hP hl
  by_cases c : (cL σ0 q).isSome = true
  · have k := k H locs ls hS hP hl
    rw [rk_t c] at h k
    exact lv_aload_n Γ.1 Γ.2.1 d rfl (lv_at hl j h) k
  · have k := k H locs ls hS hP hl
    rw [rk_f c] at h k
    exact lv_aload_nN Γ.1 Γ.2.1 d rfl (lv_at hl j h) k
theorem A_aloadO (Γ : Ok G own cc nL) {i : Nat} (d : decode cc pc = .ok (.aload i, 2)) (j : Nat) (h : lv[j]? = some (i, va_rf (rk X σ0 q))) (k : At G nL σ lv (va_rf (rk X σ0 q) :: st) (pc + 2)) : At G nL σ lv st pc := by
  intro H locs ls hS hP hl
  by_cases c : (cL σ0 q).isSome = true
  · have k := k H locs ls hS hP hl
    rw [rk_t c] at h k
    exact lv_aload Γ.1 Γ.2.1 d (lv_at hl j h) k
  · have k := k H locs ls hS hP hl
    rw [rk_f c] at h k
    exact lv_aloadN Γ.1 Γ.2.1 d (lv_at hl j h) k
theorem rf_or (X : Xw) (σ : St) (q : Nat) : va_rf (rk X σ q) = .ref (xad X q) ∨ va_rf (rk X σ q) = .null := by
  by_cases c : (cL σ q).isSome = true
  · exact Or.inl (rk_t c)
  · exact Or.inr (rk_f c)
theorem rf_cat (X : Xw) (σ : St) (q : Nat) : (va_rf (rk X σ q)).category = 1 := by unfold rk; split <;> rfl
theorem A_astoreO_n (Γ : Ok G own cc nL) {n : Fin 4} (d : decode cc pc = .ok (.astore_n n, 1)) (hn : (n : Nat) < nL) (hf : ∀ w : Value, ((n : Nat), w) :: lv.filter (fun q => !(q.1 == (n : Nat)) && !(q.1 + 1 == (n : Nat) && q.2.category == 2)) = ((n : Nat), w) :: lv') (k : At G nL σ (((n : Nat), va_rf (rk X σ0 q)) :: lv') st (pc + 1)) : At G nL σ lv (va_rf (rk X σ0 q) :: st) pc := by
  intro H locs ls hS hP hl
  by_cases c : (cL σ0 q).isSome = true
  · rw [rk_t c] at k ⊢
    exact lv_astore_n Γ.1 Γ.2.1 d rfl hl hn (hf _) (fun ls hl => k H locs ls hS hP hl)
  · rw [rk_f c] at k ⊢
    exact lv_astore_nN Γ.1 Γ.2.1 d rfl hl hn (hf _) (fun ls hl => k H locs ls hS hP hl)
theorem A_astoreO (Γ : Ok G own cc nL) {i : Nat} (d : decode cc pc = .ok (.astore i, 2)) (hn : i < nL) (hf : ∀ w : Value, (i, w) :: lv.filter (fun q => !(q.1 == i) && !(q.1 + 1 == i && q.2.category == 2)) = (i, w) :: lv') (k : At G nL σ ((i, va_rf (rk X σ0 q)) :: lv') st (pc + 2)) : At G nL σ lv (va_rf (rk X σ0 q) :: st) pc := by
  intro H locs ls hS hP hl
  by_cases c : (cL σ0 q).isSome = true
  · rw [rk_t c] at k ⊢
    exact lv_astore Γ.1 Γ.2.1 d hl hn (hf _) (fun ls hl => k H locs ls hS hP hl)
  · rw [rk_f c] at k ⊢
    exact lv_astoreN Γ.1 Γ.2.1 d hl hn (hf _) (fun ls hl => k H locs ls hS hP hl)
theorem A_null (Γ : Ok G own cc nL) (d : decode cc pc = .ok (.aconst_null, 1)) (k : At G nL σ lv (.null :: st) (pc + 1)) : At G nL σ lv st pc := fun H locs ls hS hP hl => lv_null Γ.1 Γ.2.1 d (k H locs ls hS hP hl)
theorem A_alenD (Γ : Ok G own cc nL) (Ξ : OkX 0 G X) (hq : kInt q ∨ kByte q) (hv : v = .ref (xad X q)) (hL : cL σ q = some n) (d : decode cc pc = .ok (.arraylength, 1)) (kk : At G nL σ lv (.int (nI n) :: st) (pc + 1)) : At G nL σ lv (v :: st) pc := by
  intro H locs ls hS hP hl
  subst hv
  have hP0 := hP
  rw [Ξ.2.1] at hP
  rcases hq with hq | hq
  · have hd := (hP.2.2.1 rfl q n hq.1 hL).1 hq.2
    exact W.alen (n := nI n) Γ.1 Γ.2.1 hd ((Ξ.1.2 0 _ rfl).1 _ _) (by rw [arrV_size]; rfl) rfl rfl d (kk H locs ls hS hP0 hl)
  · have hd := (hP.2.2.1 rfl q n (by have := hq.1; omega) hL).2.1 hq.1 hq.2
    exact W.alen (n := nI n) Γ.1 Γ.2.1 hd ((Ξ.1.2 2 _ rfl).1 _ _) (by rw [arrV_size]; rfl) rfl rfl d (kk H locs ls hS hP0 hl)
theorem A_aldD (Γ : Ok G own cc nL) (Ξ : OkX 0 G X) (hq : kInt q) (hv : v = .ref (xad X q)) {i x : Int32} (hr : rdD σ q i = some x) (d : decode cc pc = .ok (.iaload, 1)) (kk : At G nL σ lv (.int x :: st) (pc + 1)) : At G nL σ lv (.int i :: v :: st) pc := by
  intro H locs ls hS hP hl
  subst hv
  obtain ⟨n, hL, hr⟩ := rdD_in hr
  obtain ⟨h1, rfl⟩ := rdA_in hr
  have hP0 := hP
  rw [Ξ.2.1] at hP
  have hd := (hP.2.2.1 rfl q n hq.1 hL).1 hq.2
  have h2 : i.toNatClampNeg < n := Nat.not_le.mp fun w => h1 (Or.inr w)
  exact W.iald (v := .int (cA σ q i.toNatClampNeg)) Γ.1 Γ.2.1 hd ((Ξ.1.2 0 _ rfl).1 _ _) (fun w => by cases w) (by rw [arrV_size]; exact h1) (arrV_read _ _ h2) rfl rfl d (kk H locs ls hS hP0 hl)
theorem A_baldD (Γ : Ok G own cc nL) (Ξ : OkX 0 G X) (hq : kByte q) (hv : v = .ref (xad X q)) {i x : Int32} (hr : rdD σ q i = some x) (d : decode cc pc = .ok (.baload, 1)) (kk : At G nL σ lv (.int x :: st) (pc + 1)) : At G nL σ lv (.int i :: v :: st) pc := by
  intro H locs ls hS hP hl
  subst hv
  obtain ⟨n, hL, hr⟩ := rdD_in hr
  obtain ⟨h1, rfl⟩ := rdA_in hr
  have hP0 := hP
  rw [Ξ.2.1] at hP
  have hd := (hP.2.2.1 rfl q n (by have := hq.1; omega) hL).2.1 hq.1 hq.2
  have h2 : i.toNatClampNeg < n := Nat.not_le.mp fun w => h1 (Or.inr w)
  exact W.bald (v := .int (cA σ q i.toNatClampNeg)) Γ.1 Γ.2.1 hd ((Ξ.1.2 2 _ rfl).1 _ _) (fun w => by cases w) (by rw [arrV_size]; exact h1) (arrV_read _ _ h2) rfl rfl d (kk H locs ls hS hP0 hl)
theorem Pic.setD {H H1 : Heap} {i : Nat} {x : Int32} (hP : Pic 0 X σ H) (hq : kInt q ∨ kByte q) (hL : cL σ q = some n) {t : Nat} (ht : (kInt q ∧ t = 0) ∨ (kByte q ∧ t = 2)) (e : H1[xad X q]? = some ((arrV (xA X t) n (fun j => .int (cA σ q j))).setSlot i (.int x))) (oq : ∀ a : Nat, a ≠ xad X q → H1[a]? = H[a]?) : Pic 0 X (sA σ q i x) H1 := by
  have h100 : 100 ≤ q := by rcases hq with h | h <;> have := h.1 <;> omega
  have ea : cA (sA σ q i x) q = upd (cA σ q) i x := by rw [cA_sA, if_pos rfl]
  refine hP.upD h100 hL ?_ oq (fun _ => rfl) (fun j hj => cellZ_dyn h100 j hj) (fun _ => rfl) (fun j hj => by rw [cA_sA, if_neg hj])
  rw [arrV_store, updV_int] at e
  rcases ht with ⟨h, rfl⟩ | ⟨h, rfl⟩
  · refine ⟨fun _ => by rw [ea]; exact e, fun a b => ?_, fun a b => ?_⟩
    · have := h.2; omega
    · have := h.2; omega
  · refine ⟨fun a => ?_, fun _ _ => by rw [ea]; exact e, fun a b => ?_⟩
    · have := h.1; have := h.2; omega
    · have := h.2; omega
theorem A_astD (Γ : Ok G own cc nL) (Ξ : OkX 0 G X) (hq : kInt q) (hv : v = .ref (xad X q)) {i x : Int32} (hw : wrD σ q i x = some σ1) (d : decode cc pc = .ok (.iastore, 1)) (kk : At G nL σ1 lv st (pc + 1)) : At G nL σ lv (.int x :: .int i :: v :: st) pc := by
  intro H locs ls hS hP hl
  subst hv
  obtain ⟨n, hL, hw⟩ := wrD_in hw
  obtain ⟨h1, rfl⟩ := wrA_in hw
  rw [Ξ.2.1] at hP
  have hd := (hP.2.2.1 rfl q n hq.1 hL).1 hq.2
  refine W.iast Γ.1 Γ.2.1 hd ((Ξ.1.2 0 _ rfl).1 _ _) (fun w => by cases w) (by rw [arrV_size]; exact h1) rfl rfl d fun H1 e zz oq => ?_
  refine kk H1 _ ls (hS.put zz oq (by rw [Ξ.2.2.1]; exact (hP.2.2.2.2.1 q (Or.inr ⟨rfl, hq.1, some_is hL⟩)).1)) ?_ hl
  rw [Ξ.2.1]
  exact hP.setD (Or.inl hq) hL (Or.inl ⟨hq, rfl⟩) e oq
theorem A_bastD (Γ : Ok G own cc nL) (Ξ : OkX 0 G X) (hq : kByte q) (hv : v = .ref (xad X q)) {i x : Int32} (hw : wrD σ q i (vp_nar .byte x) = some σ1) (d : decode cc pc = .ok (.bastore, 1)) (kk : At G nL σ1 lv st (pc + 1)) : At G nL σ lv (.int x :: .int i :: v :: st) pc := by
  intro H locs ls hS hP hl
  subst hv
  obtain ⟨n, hL, hw⟩ := wrD_in hw
  obtain ⟨h1, rfl⟩ := wrA_in hw
  rw [Ξ.2.1] at hP
  have h100 : 100 ≤ q := by have := hq.1; omega
  have hd := (hP.2.2.1 rfl q n h100 hL).2.1 hq.1 hq.2
  refine W.bast Γ.1 Γ.2.1 hd ((Ξ.1.2 2 _ rfl).1 _ _) (fun w => by cases w) (by rw [arrV_size]; exact h1) rfl rfl d fun H1 e zz oq => ?_
  refine kk H1 _ ls (hS.put zz oq (by rw [Ξ.2.2.1]; exact (hP.2.2.2.2.1 q (Or.inr ⟨rfl, h100, some_is hL⟩)).1)) ?_ hl
  rw [Ξ.2.1]
  exact hP.setD (Or.inr hq) hL (Or.inr ⟨hq, rfl⟩) e oq
/-- a trailer's field -/
theorem A_getT (Γ : Ok G own cc nL) (Ξ : OkX 0 G X) (hq : kTr q) (hv : v = .ref (xad X q)) {f index : Nat} {ref name desc : String} {w : Value} {C : Nat → Prop} (hT : ∀ n, n < 4 → C n → f < NT n ∧ (TT n f).1 = ref ∧ (TT n f).2.1 = name ∧ (TT n f).2.2.1 = desc) (hlink : Cond.fieldLink own index ref name desc ∈ lw_all) (hL : cL σ q = some n) (hok : C n) (hw : tv X σ q n f = w) (d : decode cc pc = .ok (.getfield index, 3)) (kk : At G nL σ lv (w :: st) (pc + 3)) : At G nL σ lv (v :: st) pc := by
  intro H locs ls hS hP hl
  subst hv
  have hP0 := hP
  rw [Ξ.2.1] at hP
  obtain ⟨hn4, cell, q1, q2, q3, q4⟩ := (hP.2.2.1 rfl q n (by have := hq.1; omega) hL).2.2 hq.1 hq.2
  obtain ⟨hfN, rfl, rfl, rfl⟩ := hT n hn4 hok
  obtain ⟨hSl, hfc, kC, hkC, hkind⟩ := Ξ.1.1 (2 + n) _ (vwT n hn4)
  obtain ⟨cf, kf, fi, fd, hi, hsl⟩ := hSl f hfN
  refine W.getf Γ.1 Γ.2.1 Γ.2.2.2.1 (Γ.2.2.2.2 _ hlink) hi (u_facts hfc hkC (u_lays Γ.2.2.2.2 (in_T n hn4) hfN) hi).1 q1 (by rw [q3]; exact fun h => by cases h) (v := w) ?_ rfl rfl d (kk H locs ls hS hP0 hl)
  rw [hsl, q4 f hfN, hw]
theorem tv_int {X : Xw} {σ : St} {q n f : Nat} (h : okT n f = true) : tv X σ q n f = .int (cA σ q f) := by
  unfold tv
  unfold okT at h
  simp only [Bool.or_eq_true, Bool.and_eq_true, decide_eq_true_eq, beq_iff_eq] at h
  rw [if_neg (by omega), if_neg (by omega), if_neg (by omega)]
theorem A_putT (Γ : Ok G own cc nL) (Ξ : OkX 0 G X) (hq : kTr q) (hv : v = .ref (xad X q)) {f index : Nat} {ref name desc : String} {ty : FieldType} {x : Int32} (hT : ∀ n, n < 4 → okT n f = true → f < NT n ∧ (TT n f).1 = ref ∧ (TT n f).2.1 = name ∧ (TT n f).2.2.1 = desc ∧ (TT n f).2.2.2 = false ∧ tyT n f = ty ∧ ∀ j, j < NT n → j ≠ f → (TT n j).2.1 ≠ name) (hlink : Cond.fieldLink own index ref name desc ∈ lw_all) (hnr : narrow ty (.int x) = .int x) (hfit : fits ty (.int x) = true) (hw : wrT σ q f x = some σ1) (d : decode cc pc = .ok (.putfield index, 3)) (kk : At G nL σ1 lv st (pc + 3)) : At G nL σ lv (.int x :: v :: st) pc := by
  intro H locs ls hS hP hl
  subst hv
  obtain ⟨n, hL, hok, rfl⟩ := wrT_in hw
  rw [Ξ.2.1] at hP
  have h100 : 100 ≤ q := by have := hq.1; omega
  have hPP := hP
  obtain ⟨hn4, cell, q1, q2, q3, q4⟩ := (hP.2.2.1 rfl q n h100 hL).2.2 hq.1 hq.2
  obtain ⟨hfN, rfl, rfl, rfl, hfin, rfl, hnm⟩ := hT n hn4 hok
  obtain ⟨hSl, hfc, kC, hkC, hkind⟩ := Ξ.1.1 (2 + n) _ (vwT n hn4)
  obtain ⟨cf, kf, fi, fd, hi, hsl⟩ := hSl f hfN
  have hin := in_T n hn4
  have hlay := Γ.2.2.2.2 _ (hin _ (u_in_lay hfN))
  unfold u_lay at hlay
  rw [if_neg (by rw [hfin]; decide)] at hlay
  have hst := (u_facts hfc hkC (u_lays Γ.2.2.2.2 hin hfN) hi).1
  have h6 := u_store hfc hkC hkind hlay hi (ty_T n hn4 f hfN) hnr hfit
  have hap : ∀ b, b < NT n → b ≠ f → xI X (2 + n) b ≠ xI X (2 + n) f := by
    intro b hb hbf
    obtain ⟨_, _, _, fb, hib, eb⟩ := hSl b hb
    show (xC X, xI X).2 (2 + n) b ≠ (xC X, xI X).2 (2 + n) f
    rw [← eb, ← hsl]
    refine u_apart (u_lays Γ.2.2.2.2 hin hb) (u_lays Γ.2.2.2.2 hin hfN) hib hi ?_
    rw [(State.fieldFound?_type hib (ty_T n hn4 b hb)).1, (State.fieldFound?_type hi (ty_T n hn4 f hfN)).1]
    exact hnm b hb hbf
  refine W.putK Γ.1 Γ.2.1 (f := fd) ⟨Γ.2.2.2.1, Γ.2.2.2.2 _ hlink, ⟨_, _, _, hi⟩, hst⟩ (by rw [q2]; exact h6) q1 q3 (by rw [hsl]; exact k2_hasslot (q4 f hfN)) rfl rfl d fun H' e1 e2 e3 => ?_
  rw [hsl] at e1 ⊢
  refine kk H' _ ls (hS.put e2 e3 (by rw [Ξ.2.2.1]; exact (hP.2.2.2.2.1 q (Or.inr ⟨rfl, h100, some_is hL⟩)).1)) ?_ hl
  rw [Ξ.2.1]
  refine hPP.upD h100 hL ⟨fun a => ?_, fun a b => ?_, fun _ _ => ⟨hn4, t_OB.to (V := updV (tv X σ q n) f (.int x)) ⟨_, e1, q2, q3, t_set1 q4 hap hfN (.int x)⟩ (fun j _ => ?_)⟩⟩ e3 (fun _ => rfl) (fun j hj => cellZ_dyn h100 j hj) (fun _ => rfl) (fun j hj => by rw [cA_sA, if_neg hj])
  · have := hq.1; have := hq.2; omega
  · have := hq.1; omega
  · unfold updV
    split
    · rename_i h
      subst h
      rw [tv_int hok, cA_sA, if_pos rfl]
      show _ = Value.int (if _ then _ else _)
      rw [if_pos rfl]
    · rename_i h
      unfold tv
      rw [cA_sA, if_pos rfl]
      show _ = if _ then _ else if _ then _ else if _ then _ else Value.int (if _ then _ else _)
      rw [if_neg h]
end Dyn
