/-! the trailers' own words: the outer object, its private fields, the kind -/
section TB
variable {G : Gx} {cc : ByteArray} {nL pc : Nat} {σ : St} {lv : List (Nat × Value)} {st : List Value} {X : Xw} {q n : Nat} {v : Value}
theorem gOX2 (Γ : Ok G RX2 cc nL) (Ξ : OkX 0 G X) (hq : kTr q) (hv : v = .ref (xad X q)) (hL : cL σ q = some n) (d : decode cc pc = .ok (.getfield 3, 3)) (kk : At G nL σ lv (.ref (xo X) :: st) (pc + 3)) : At G nL σ lv (v :: st) pc := A_getT Γ Ξ hq hv (f := 10) (C := fun _ => True) (n4 (by decide) (by decide) (by decide) (by decide)) q581 hL trivial rfl d kk
theorem gOX4 (Γ : Ok G RX4 cc nL) (Ξ : OkX 0 G X) (hq : kTr q) (hv : v = .ref (xad X q)) (hL : cL σ q = some 2) (d : decode cc pc = .ok (.getfield 3, 3)) (kk : At G nL σ lv (.ref (xo X) :: st) (pc + 3)) : At G nL σ lv (v :: st) pc := A_getT Γ Ξ hq hv (f := 11) (C := fun n => n = 2) (n4 (by decide) (by decide) (by decide) (by decide)) q638 hL rfl rfl d kk
theorem gNX2_20 (Γ : Ok G RX2 cc nL) (Ξ : OkX 0 G X) (d : decode cc pc = .ok (.getfield 48, 3)) (kk : At G nL σ lv (.int (cI σ 20) :: st) (pc + 3)) : At G nL σ lv (.ref (xo X) :: st) pc := A_getN Γ Ξ (k := 20) (by decide) (List.mem_of_getElem? (i := 0) rfl) rfl rfl d kk
theorem gNX2_21 (Γ : Ok G RX2 cc nL) (Ξ : OkX 0 G X) (d : decode cc pc = .ok (.getfield 51, 3)) (kk : At G nL σ lv (.int (cI σ 21) :: st) (pc + 3)) : At G nL σ lv (.ref (xo X) :: st) pc := A_getN Γ Ξ (k := 21) (by decide) (List.mem_of_getElem? (i := 1) rfl) rfl rfl d kk
theorem gNX4_11 (Γ : Ok G RX4 cc nL) (Ξ : OkX 0 G X) (d : decode cc pc = .ok (.getfield 19, 3)) (kk : At G nL σ lv (.int (cI σ 11) :: st) (pc + 3)) : At G nL σ lv (.ref (xo X) :: st) pc := A_getN Γ Ξ (k := 11) (by decide) (List.mem_of_getElem? (i := 2) rfl) rfl rfl d kk
theorem gNX4_25 (Γ : Ok G RX4 cc nL) (Ξ : OkX 0 G X) (d : decode cc pc = .ok (.getfield 23, 3)) (kk : At G nL σ lv (.ref (xad X 25) :: st) (pc + 3)) : At G nL σ lv (.ref (xo X) :: st) pc := A_getN Γ Ξ (k := 25) (by decide) (List.mem_of_getElem? (i := 3) rfl) rfl rfl d kk
end TB
section Kind
variable {l : Launch} {X : Xw} {σ : St} {q n : Nat}
theorem mtX2_kind (l : Launch) (X : Xw) {σ : St} {q : Nat} (hq : kTr q) : MetZ 0 l X yX2_kind cX2_kind 1 (some .int) 0 0 [.ref (xad X q)] σ (some (.int 0)) σ := MetZ.ofAt (by decide) (Nat.le_of_ble_eq_true rfl) (fun G _ Γ Ξ hRm hret => by
  refine A_iconst (v := 0) Γ dX2_kind_0 (by decide) ?_
  exact hret _ _ dX2_kind_1)
theorem mtX3_kind (l : Launch) (X : Xw) {σ : St} {q n : Nat} (hq : kTr q) (hL : cL σ q = some n) : MetZ 0 l X yX3_kind cX3_kind 1 (some .int) 1 20 [.ref (xad X q)] σ (some (.int (0 + 1))) σ := MetZ.ofAt (by decide) (Nat.le_of_ble_eq_true rfl) (fun G _ Γ Ξ hRm hret => by
  refine A_aload_n Γ dX3_kind_0 0 rfl ?_
  refine A_callSup (k := 0) Γ Ξ hq hL (mtX2_kind (gl G) X hq) (va_cwSU 0 Γ.2.2.2.2 (lw_SU q701 q697 q631 q695 q75 q710) rfl rfl rfl (by decide +kernel) (rm_ok hRm (by decide) (by decide))) (rm_k hRm) (Nat.le_of_ble_eq_true rfl) dX3_kind_1 ?_
  refine A_iconst (v := 1) Γ dX3_kind_4 (by decide) ?_
  refine A_iadd Γ dX3_kind_5 ?_
  exact hret _ _ dX3_kind_6)
theorem mtX4_kind (l : Launch) (X : Xw) {σ : St} {q n : Nat} (hq : kTr q) (hL : cL σ q = some n) : MetZ 0 l X yX4_kind cX4_kind 1 (some .int) 1 20 [.ref (xad X q)] σ (some (.int (0 + 2))) σ := MetZ.ofAt (by decide) (Nat.le_of_ble_eq_true rfl) (fun G _ Γ Ξ hRm hret => by
  refine A_aload_n Γ dX4_kind_0 0 rfl ?_
  refine A_callSup (k := 0) Γ Ξ hq hL (mtX2_kind (gl G) X hq) (va_cwSU 0 Γ.2.2.2.2 (lw_SU q709 q697 q652 q695 q75 q710) rfl rfl rfl (by decide +kernel) (rm_ok hRm (by decide) (by decide))) (rm_k hRm) (Nat.le_of_ble_eq_true rfl) dX4_kind_1 ?_
  refine A_iconst (v := 2) Γ dX4_kind_4 (by decide) ?_
  refine A_iadd Γ dX4_kind_5 ?_
  exact hret _ _ dX4_kind_6)
theorem mtX5_kind (l : Launch) (X : Xw) {σ : St} {q n : Nat} (hq : kTr q) (hL : cL σ q = some n) : MetZ 0 l X yX5_kind cX5_kind 1 (some .int) 2 40 [.ref (xad X q)] σ (some (.int (0 + 1 + 2))) σ := MetZ.ofAt (by decide) (Nat.le_of_ble_eq_true rfl) (fun G _ Γ Ξ hRm hret => by
  refine A_aload_n Γ dX5_kind_0 0 rfl ?_
  refine A_callSup (k := 0) Γ Ξ hq hL (mtX3_kind (gl G) X hq hL) (va_cwSU 0 Γ.2.2.2.2 (lw_SU q705 q1689 q678 q699 q76 q700) rfl rfl rfl (by decide +kernel) (rm_ok hRm (by decide) (by decide))) (rm_k hRm) (Nat.le_of_ble_eq_true rfl) dX5_kind_1 ?_
  refine A_iconst (v := 2) Γ dX5_kind_4 (by decide) ?_
  refine A_iadd Γ dX5_kind_5 ?_
  exact hret _ _ dX5_kind_6)
end Kind
section Kind2
variable {G : Gx} {cc : ByteArray} {nL pc F LO : Nat} {σ : St} {lv : List (Nat × Value)} {st : List Value} {X : Xw} {q n : Nat} {v : Value}
theorem A_kind (Γ : Ok G RX0 cc nL) (Ξ : OkX 0 G X) (hq : kTr q) (hv : v = .ref (xad X q)) (hL : cL σ q = some n) (hRm : Rm G F LO) (hf : 2 + 1 ≤ F) (hlo : 8 + (1 + 11) + 40 ≤ LO) (hW : (st.map fun v => v.category).sum ≤ 8) (d : decode cc pc = .ok (.invokevirtual 268, 3)) (kk : At G nL σ lv (.int (nI n) :: st) (pc + 3)) : At G nL σ lv (v :: st) pc := A_n4 Ξ hq hL (fun hn => by
  match n, hn with
  | 0, _ =>
    exact A_callU (x := yX2_kind) (As := []) Γ Ξ hq hL hv (mtX2_kind (gl G) X hq) (fun _ => va_cwU 0 Γ.2.2.2.2 (lw_U q694 q697 q696 q695 q75 q710) rfl rfl rfl rfl (by decide +kernel) (rm_ok (f := 0) (lo := 0) hRm (by omega) (by omega))) (rm_k hRm) rfl rfl hW d kk
  | 1, _ =>
    exact A_callU (x := yX2_kind) (As := []) Γ Ξ hq hL hv (mtX3_kind (gl G) X hq hL) (fun _ => va_cwO 0 Γ.2.2.2.2 (lw_O q694 q697 q695 q698 q699 q76 q700) rfl rfl rfl q710 (by decide +kernel) (rm_ok (f := 1) (lo := 20) hRm (by omega) (by omega))) (rm_k hRm) rfl rfl hW d kk
  | 2, _ =>
    exact A_callU (x := yX2_kind) (As := []) Γ Ξ hq hL hv (mtX4_kind (gl G) X hq hL) (fun _ => va_cwO 0 Γ.2.2.2.2 (lw_O q694 q697 q695 q706 q707 q77 q708) rfl rfl rfl q710 (by decide +kernel) (rm_ok (f := 1) (lo := 20) hRm (by omega) (by omega))) (rm_k hRm) rfl rfl hW d kk
  | 3, _ =>
    exact A_callU (x := yX2_kind) (As := []) Γ Ξ hq hL hv (mtX5_kind (gl G) X hq hL) (fun _ => va_cwO 0 Γ.2.2.2.2 (lw_O q694 q697 q695 q702 q703 q78 q704) rfl rfl rfl q710 (by decide +kernel) (rm_ok (f := 2) (lo := 40) hRm (by omega) (by omega))) (rm_k hRm) rfl rfl hW d kk)
end Kind2
/-! judged, looked at, marked -/
def icT (n : Nat) : Int32 := if n = 1 ∨ n = 3 then 1 else 0
def ckC (σ : St) (q : Nat) : Option Nat := (cL σ q).bind fun n => if n = 1 ∨ n = 3 then some n else none
def lkT (σ : St) (q : Nat) : Option St := (cL σ q).bind fun n => if n = 1 then some σ else if n = 3 then some (sA σ q 13 (cA σ q 13 + 1)) else none
theorem ckC_in {σ : St} {q n : Nat} (h : ckC σ q = some n) : cL σ q = some n ∧ (n = 1 ∨ n = 3) := by
  unfold ckC at h
  cases hc : cL σ q with
  | none => rw [hc] at h; cases h
  | some k =>
    rw [hc] at h
    have h : (if k = 1 ∨ k = 3 then some k else none) = some n := h
    split at h
    · cases h; exact ⟨rfl, ‹_›⟩
    · cases h
theorem lkT_in {σ σ1 : St} {q : Nat} (h : lkT σ q = some σ1) : (cL σ q = some 1 ∧ σ1 = σ) ∨ (cL σ q = some 3 ∧ σ1 = sA σ q 13 (cA σ q 13 + 1)) := by
  unfold lkT at h
  cases hc : cL σ q with
  | none => rw [hc] at h; cases h
  | some k =>
    rw [hc] at h
    have h : (if k = 1 then some σ else if k = 3 then some (sA σ q 13 (cA σ q 13 + 1)) else none) = some σ1 := h
    split at h
    · rename_i hk; subst hk; cases h; exact Or.inl ⟨rfl, rfl⟩
    · split at h
      · rename_i hk; subst hk; cases h; exact Or.inr ⟨rfl, rfl⟩
      · cases h
theorem mtX6_isCold (l : Launch) (X : Xw) {σ : St} {q : Nat} : MetZ 0 l X yX6_isCold cX6_isCold 1 (some .boolean) 0 0 [.ref (xad X q)] σ (some (.int 0)) σ := MetZ.ofAt (by decide) (Nat.le_of_ble_eq_true rfl) (fun G _ Γ Ξ hRm hret => by
  refine A_iconst (v := 0) Γ dX6_isCold_0 (by decide) ?_
  exact hret _ _ ⟨dX6_isCold_1, by decide⟩)
theorem mtX3_isCold (l : Launch) (X : Xw) {σ : St} {q : Nat} : MetZ 0 l X yX3_isCold cX3_isCold 1 (some .boolean) 0 0 [.ref (xad X q)] σ (some (.int 1)) σ := MetZ.ofAt (by decide) (Nat.le_of_ble_eq_true rfl) (fun G _ Γ Ξ hRm hret => by
  refine A_iconst (v := 1) Γ dX3_isCold_0 (by decide) ?_
  exact hret _ _ ⟨dX3_isCold_1, by decide⟩)
theorem mtX3_look (l : Launch) (X : Xw) {σ : St} {q : Nat} : MetZ 0 l X yX3_look cX3_look 1 none 0 0 [.ref (xad X q)] σ none σ := MetZ.ofAt (by decide) (Nat.le_of_ble_eq_true rfl) (fun G _ Γ Ξ hRm hret => hret _ _ dX3_look_0)
theorem mtX3_mark (l : Launch) (X : Xw) {σ : St} {q : Nat} {r : Int32} (hq : kTr q) (h : rdT σ q 11 = some r) : MetZ 0 l X yX3_mark cX3_mark 1 (some .int) 0 0 [.ref (xad X q)] σ (some (.int r)) σ := MetZ.ofAt (by decide) (Nat.le_of_ble_eq_true rfl) (fun G _ Γ Ξ hRm hret => by
  refine A_aload_n Γ dX3_mark_0 0 rfl ?_
  refine gTX3_11 Γ Ξ hq rfl h dX3_mark_1 ?_
  exact hret _ _ dX3_mark_4)
theorem mtX5_mark (l : Launch) (X : Xw) {σ : St} {q : Nat} {r : Int32} (hq : kTr q) (h : rdT σ q 13 = some r) : MetZ 0 l X yX5_mark cX5_mark 1 (some .int) 0 0 [.ref (xad X q)] σ (some (.int r)) σ := MetZ.ofAt (by decide) (Nat.le_of_ble_eq_true rfl) (fun G _ Γ Ξ hRm hret => by
  refine A_aload_n Γ dX5_mark_0 0 rfl ?_
  refine gTX5_13 Γ Ξ hq rfl h dX5_mark_1 ?_
  exact hret _ _ dX5_mark_4)
theorem rdT_3 {σ : St} {q f : Nat} (hL : cL σ q = some 3) (hf : okT 3 f = true) : rdT σ q f = some (cA σ q f) := by unfold rdT; rw [hL]; exact if_pos hf
theorem wrT_3 {σ : St} {q f : Nat} {v : Int32} (hL : cL σ q = some 3) (hf : okT 3 f = true) : wrT σ q f v = some (sA σ q f v) := by unfold wrT; rw [hL]; exact if_pos hf
theorem mtX5_look (l : Launch) (X : Xw) {σ : St} {q : Nat} (hq : kTr q) (hL : cL σ q = some 3) : MetZ 0 l X yX5_look cX5_look 1 none 0 0 [.ref (xad X q)] σ none (sA σ q 13 (cA σ q 13 + 1)) := MetZ.ofAt (by decide) (Nat.le_of_ble_eq_true rfl) (fun G _ Γ Ξ hRm hret => by
  refine A_aload_n Γ dX5_look_0 0 rfl ?_
  refine A_dup Γ dX5_look_1 rfl ?_
  refine gTX5_13 Γ Ξ hq rfl (rdT_3 hL rfl) dX5_look_2 ?_
  refine A_iconst (v := 1) Γ dX5_look_5 (by decide) ?_
  refine A_iadd Γ dX5_look_6 ?_
  refine pTX5_13 Γ Ξ hq rfl (wrT_3 hL rfl) dX5_look_7 ?_
  exact hret _ _ dX5_look_10)
theorem mtX5_asCold (l : Launch) (X : Xw) {σ : St} {q n : Nat} {r : Int32} (hq : kTr q) (hL : cL σ q = some n) (h : rdT σ q 11 = some r) : MetZ 0 l X yX5_asCold cX5_asCold 1 (some .int) 1 20 [.ref (xad X q)] σ (some (.int r)) σ := MetZ.ofAt (by decide) (Nat.le_of_ble_eq_true rfl) (fun G _ Γ Ξ hRm hret => by
  refine A_aload_n Γ dX5_asCold_0 0 rfl ?_
  refine A_callSup (k := 0) Γ Ξ hq hL (mtX3_mark (gl G) X hq h) (va_cwSU 0 Γ.2.2.2.2 (lw_SU q733 q1690 q678 q734 q76 q735) rfl rfl rfl (by decide +kernel) (rm_ok hRm (by decide) (by decide))) (rm_k hRm) (Nat.le_of_ble_eq_true rfl) dX5_asCold_1 ?_
  exact hret _ _ dX5_asCold_4)
section Judged
variable {G : Gx} {cc : ByteArray} {nL pc F LO : Nat} {σ σ1 : St} {lv : List (Nat × Value)} {st : List Value} {X : Xw} {q n : Nat} {v : Value}
theorem A_isCold (Γ : Ok G RX0 cc nL) (Ξ : OkX 0 G X) (hq : kTr q) (hv : v = .ref (xad X q)) (hL : cL σ q = some n) (hRm : Rm G F LO) (hf : 0 + 1 ≤ F) (hlo : 8 + (1 + 11) + 0 ≤ LO) (hW : (st.map fun v => v.category).sum ≤ 8) {cnt : Nat} (d : decode cc pc = .ok (.invokeinterface 362 cnt, 5)) (kk : At G nL σ lv (.int (icT n) :: st) (pc + 5)) : At G nL σ lv (v :: st) pc := A_n4 Ξ hq hL (fun hn => by
  match n, hn with
  | 0, _ =>
    exact A_callFD (x := yX6_isCold) Γ Ξ hq hL hv q913 dX6_isCold_0 dX6_isCold_1 (plainFor_of_name (by decide)) q897 q911 Ξ.2.2.2.2.1.1 Ξ.2.2.2.2.2.2.1 (by decide) (by decide +kernel) (rm_ok (n := 1) (f := 0) (lo := 0) hRm (by omega) (by omega)) (rm_k hRm) hW d kk
  | 1, _ =>
    exact A_callF (x := yX6_isCold) Γ Ξ hq hL hv (mtX3_isCold (gl G) X) (va_cwF 0 Γ.2.2.2.2 (lw_F q897 q901 q903 q76 q905) rfl rfl rfl Ξ.2.2.2.2.1.2.1 (by decide +kernel) (rm_ok (f := 0) (lo := 0) hRm (by omega) (by omega))) (rm_k hRm) hW d kk
  | 2, _ =>
    exact A_callFD (x := yX6_isCold) Γ Ξ hq hL hv q913 dX6_isCold_0 dX6_isCold_1 (plainFor_of_name (by decide)) q897 q911 Ξ.2.2.2.2.1.2.2.1 Ξ.2.2.2.2.2.2.2 (by decide) (by decide +kernel) (rm_ok (n := 1) (f := 0) (lo := 0) hRm (by omega) (by omega)) (rm_k hRm) hW d kk
  | 3, _ =>
    exact A_callF (x := yX6_isCold) Γ Ξ hq hL hv (mtX3_isCold (gl G) X) (va_cwF 0 Γ.2.2.2.2 (lw_F q897 q907 q903 q76 q905) rfl rfl rfl Ξ.2.2.2.2.1.2.2.2 (by decide +kernel) (rm_ok (f := 0) (lo := 0) hRm (by omega) (by omega))) (rm_k hRm) hW d kk)
theorem A_ckC (Γ : Ok G RX0 cc nL) (Ξ : OkX 0 G X) (hq : kTr q) (hv : v = .ref (xad X q)) (h : ckC σ q = some n) (d : decode cc pc = .ok (.checkcast 255, 3)) (kk : At G nL σ lv (.ref (xad X q) :: st) (pc + 3)) : At G nL σ lv (v :: st) pc := by
  obtain ⟨hL, rfl | rfl⟩ := ckC_in h
  · exact A_castY Γ Ξ hq hL hv q605 (Or.inr rfl) d kk
  · exact A_castY Γ Ξ hq hL hv q605 (Or.inl (List.mem_of_getElem? (i := 5) rfl)) d kk
theorem A_look (Γ : Ok G RX0 cc nL) (Ξ : OkX 0 G X) (hq : kTr q) (hv : v = .ref (xad X q)) (h : lkT σ q = some σ1) (hRm : Rm G F LO) (hf : 0 + 1 ≤ F) (hlo : 8 + (1 + 11) + 0 ≤ LO) (hW : (st.map fun v => v.category).sum ≤ 8) (d : decode cc pc = .ok (.invokevirtual 368, 3)) (kk : At G nL σ1 lv st (pc + 3)) : At G nL σ lv (v :: st) pc := by
  rcases lkT_in h with ⟨hL, rfl⟩ | ⟨hL, rfl⟩
  · exact A_callU (x := yX3_look) (As := []) Γ Ξ hq hL hv (mtX3_look (gl G) X) (fun _ => va_cwU 0 Γ.2.2.2.2 (lw_U q916 q919 q918 q917 q76 q923) rfl rfl rfl rfl (by decide +kernel) (rm_ok (f := 0) (lo := 0) hRm (by omega) (by omega))) (rm_k hRm) rfl rfl hW d kk
  · exact A_callU (x := yX3_look) (As := []) Γ Ξ hq hL hv (mtX5_look (gl G) X hq hL) (fun _ => va_cwO 0 Γ.2.2.2.2 (lw_O q916 q919 q917 q920 q921 q78 q922) rfl rfl rfl q923 (by decide +kernel) (rm_ok (f := 0) (lo := 0) hRm (by omega) (by omega))) (rm_k hRm) rfl rfl hW d kk
end Judged
