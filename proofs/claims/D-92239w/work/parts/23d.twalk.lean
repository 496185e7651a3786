set_option maxHeartbeats 4000000 in
set_option maxRecDepth 100000 in
theorem wkX2_turning {G : Gx} {X : Xw} {σ : St} {q : Nat} (Γ : Ok G RX2 cX2_turning 4) (Ξ : OkX 0 G X) (hRm : Rm G 0 0) (hq : kTr q) {r : Int64} (h : t_turning σ q = some r) (hret : ∀ (pc : Nat) (lv : List (Nat × Value)), retIs cX2_turning (some .long) (some (.long r)) pc → At G 4 σ lv [.long r] pc) : At G 4 σ [(0, .ref (xad X q))] [] 0 := by
  rw [t_turning] at h
  refine A_lconst (v := 0) Γ dX2_turning_0 (by decide) ?_
  refine A_lstore_n (lv' := [(1, .long 0), (0, .ref (xad X q))]) Γ dX2_turning_1 (by decide) rfl ?_
  refine A_iconst (v := 0) Γ dX2_turning_2 (by decide) ?_
  refine A_istore_n (lv' := [(3, .int 0), (1, .long 0), (0, .ref (xad X q))]) Γ dX2_turning_3 (by decide) rfl ?_
  replace h := b1 h
  obtain ⟨x4, eLL1, h⟩ := h
  have hXL1 : At G 4 σ [(1, .long x4)] [] 36 := by
    refine A_lload_n Γ dX2_turning_36 0 rfl ?_
    obtain rfl := inj1 h
    exact hret _ _ dX2_turning_37
  replace eLL1 := lq2_ex eLL1
  obtain ⟨nL1, eLL1⟩ := eLL1
  have hLL1 : ∀ (nL1 : Nat) (x2 : Int64) (x3 : Int32), lpf2 (t_turning_L1 σ q) nL1 x2 x3 = some x4 → At G 4 σ [(0, .ref (xad X q)), (1, .long x2), (3, .int x3)] [] 4 := by
    intro nL1
    induction nL1 with
    | zero => intro x2 x3 eL1; exact (lpf2_0 eL1).elim
    | succ nL1 ihL1 =>
      intro x2 x3 eL1
      replace eL1 := lpf2_s eL1
      obtain ⟨qL1, eL1, hqL1⟩ := eL1
      rw [t_turning_L1] at eL1
      refine A_iload_n Γ dX2_turning_4 2 rfl ?_
      refine A_aload_n Γ dX2_turning_5 0 rfl ?_
      replace eL1 := b1 eL1
      obtain ⟨v5, e6, eL1⟩ := eL1
      refine gTX2_7 Γ Ξ hq rfl e6 dX2_turning_6 ?_
      refine A_icmp_ge (t := 36) Γ dX2_turning_9 (by decide) (fun c => ?_) (fun c => ?_)
      · replace eL1 := it_t c eL1
        obtain rfl := pr1 (lpx2 eL1 hqL1)
        exact A_sub [1] rfl hXL1
      · replace eL1 := it_f c eL1
        refine A_lload_n Γ dX2_turning_12 1 rfl ?_
        refine A_aload_n Γ dX2_turning_13 0 rfl ?_
        replace eL1 := b1 eL1
        obtain ⟨n7, e8, eL1⟩ := eL1
        refine gTX2_8 Γ Ξ hq rfl e8 dX2_turning_14 ?_
        refine A_iload_n Γ dX2_turning_17 2 rfl ?_
        replace eL1 := b1 eL1
        obtain ⟨v9, e10, eL1⟩ := eL1
        refine A_aldD Γ Ξ (kInt_w hq) rfl e10 dX2_turning_18 ?_
        refine A_i2l Γ dX2_turning_19 ?_
        refine A_aload_n Γ dX2_turning_20 0 rfl ?_
        replace eL1 := b1 eL1
        obtain ⟨n11, e12, eL1⟩ := eL1
        refine gTX2_9 Γ Ξ hq rfl e12 dX2_turning_21 ?_
        refine A_iload_n Γ dX2_turning_24 2 rfl ?_
        replace eL1 := b1 eL1
        obtain ⟨v13, e14, eL1⟩ := eL1
        refine A_aldD Γ Ξ (kInt_p hq) rfl e14 dX2_turning_25 ?_
        refine A_i2l Γ dX2_turning_26 ?_
        refine A_lmul Γ dX2_turning_27 ?_
        refine A_ladd Γ dX2_turning_28 ?_
        refine A_lstore_n (lv' := [(1, .long (x2 + (v9.toInt64 * v13.toInt64))), (0, .ref (xad X q)), (3, .int x3)]) Γ dX2_turning_29 (by decide) rfl ?_
        refine A_iinc (v := x3 + 1) (lv' := [(3, .int (x3 + 1)), (1, .long (x2 + (v9.toInt64 * v13.toInt64))), (0, .ref (xad X q))]) Γ dX2_turning_30 2 rfl rfl (by decide) rfl ?_
        refine A_goto (t := 4) Γ dX2_turning_33 (by decide) ?_
        exact A_sub [2, 1, 0] rfl (ihL1 _ _ (lpc2 eL1 hqL1))
  exact A_sub [2, 1, 0] rfl (hLL1 _ _ _ eLL1)
theorem mtX2_turning (l : Launch) (X : Xw) {σ : St} {q : Nat} (hq : kTr q) {r : Int64} (h : t_turning σ q = some r) : MetZ 0 l X yX2_turning cX2_turning 4 (some .long) 0 0 [.ref (xad X q)] σ (some (.long r)) σ := MetZ.ofAt (by decide) (Nat.le_of_ble_eq_true rfl) (fun G _ Γ Ξ hR hret => wkX2_turning Γ Ξ hR hq h hret)
theorem kTX2_turning {G : Gx} {X : Xw} {cc : ByteArray} {nL pc F LO q n : Nat} {v : Value} {σ : St} {lv : List (Nat × Value)} {st : List Value} (Γ : Ok G RX2 cc nL) (Ξ : OkX 0 G X) (hq : kTr q) (hv : v = .ref (xad X q)) (hL : cL σ q = some n)  {r : Int64} (hRm : Rm G F LO) (hf : 0 + 1 ≤ F) (hlo : 8 + (4 + 11) + 0 ≤ LO) (h : t_turning σ q = some r) (hW : (st.map fun v => v.category).sum ≤ 8) (d : decode cc pc = .ok (.invokevirtual 41, 3)) (kk : At G nL σ lv (.long r :: st) (pc + 3)) : At G nL σ lv (v :: st) pc :=
  A_callU Γ Ξ hq hL hv (mtX2_turning (gl G) X hq h) (fun hn => n4 (P := fun n => va_CU (gR G) (gs G) (gar G) RX2 (CT n) RX2 41 yX2_turning yX2_turning cX2_turning 4 (some .long) (ws_ yX2_turning cX2_turning 4 (some .long)) (rmF 0 0) 0 0 0)
    (va_cwU 0 Γ.2.2.2.2 (lw_U q886 q854 q853 q852 q75 q858) rfl rfl rfl rfl (by decide +kernel) (rm_ok hRm hf hlo))
    (va_cwU 0 Γ.2.2.2.2 (lw_U q886 q854 q855 q852 q75 q858) rfl rfl rfl rfl (by decide +kernel) (rm_ok hRm hf hlo))
    (va_cwU 0 Γ.2.2.2.2 (lw_U q886 q854 q857 q852 q75 q858) rfl rfl rfl rfl (by decide +kernel) (rm_ok hRm hf hlo))
    (va_cwU 0 Γ.2.2.2.2 (lw_U q886 q854 q856 q852 q75 q858) rfl rfl rfl rfl (by decide +kernel) (rm_ok hRm hf hlo)) n hn) (rm_k hRm) rfl rfl hW d kk
theorem kTX0_turning {G : Gx} {X : Xw} {cc : ByteArray} {nL pc F LO q n : Nat} {v : Value} {σ : St} {lv : List (Nat × Value)} {st : List Value} (Γ : Ok G RX0 cc nL) (Ξ : OkX 0 G X) (hq : kTr q) (hv : v = .ref (xad X q)) (hL : cL σ q = some n)  {r : Int64} (hRm : Rm G F LO) (hf : 0 + 1 ≤ F) (hlo : 8 + (4 + 11) + 0 ≤ LO) (h : t_turning σ q = some r) (hW : (st.map fun v => v.category).sum ≤ 8) (d : decode cc pc = .ok (.invokevirtual 348, 3)) (kk : At G nL σ lv (.long r :: st) (pc + 3)) : At G nL σ lv (v :: st) pc :=
  A_callU Γ Ξ hq hL hv (mtX2_turning (gl G) X hq h) (fun hn => n4 (P := fun n => va_CU (gR G) (gs G) (gar G) RX0 (CT n) RX2 348 yX2_turning yX2_turning cX2_turning 4 (some .long) (ws_ yX2_turning cX2_turning 4 (some .long)) (rmF 0 0) 0 0 0)
    (va_cwU 0 Γ.2.2.2.2 (lw_U q851 q854 q853 q852 q75 q858) rfl rfl rfl rfl (by decide +kernel) (rm_ok hRm hf hlo))
    (va_cwU 0 Γ.2.2.2.2 (lw_U q851 q854 q855 q852 q75 q858) rfl rfl rfl rfl (by decide +kernel) (rm_ok hRm hf hlo))
    (va_cwU 0 Γ.2.2.2.2 (lw_U q851 q854 q857 q852 q75 q858) rfl rfl rfl rfl (by decide +kernel) (rm_ok hRm hf hlo))
    (va_cwU 0 Γ.2.2.2.2 (lw_U q851 q854 q856 q852 q75 q858) rfl rfl rfl rfl (by decide +kernel) (rm_ok hRm hf hlo)) n hn) (rm_k hRm) rfl rfl hW d kk
set_option maxHeartbeats 4000000 in
set_option maxRecDepth 100000 in
theorem wkX2_all {G : Gx} {X : Xw} {σ : St} {q : Nat} (Γ : Ok G RX2 cX2_all 4) (Ξ : OkX 0 G X) (hRm : Rm G 0 0) (hq : kTr q) {r : Int64} (h : t_all σ q = some r) (hret : ∀ (pc : Nat) (lv : List (Nat × Value)), retIs cX2_all (some .long) (some (.long r)) pc → At G 4 σ lv [.long r] pc) : At G 4 σ [(0, .ref (xad X q))] [] 0 := by
  rw [t_all] at h
  refine A_lconst (v := 0) Γ dX2_all_0 (by decide) ?_
  refine A_lstore_n (lv' := [(1, .long 0), (0, .ref (xad X q))]) Γ dX2_all_1 (by decide) rfl ?_
  refine A_iconst (v := 0) Γ dX2_all_2 (by decide) ?_
  refine A_istore_n (lv' := [(3, .int 0), (1, .long 0), (0, .ref (xad X q))]) Γ dX2_all_3 (by decide) rfl ?_
  replace h := b1 h
  obtain ⟨x4, eLL1, h⟩ := h
  have hXL1 : At G 4 σ [(1, .long x4)] [] 28 := by
    refine A_lload_n Γ dX2_all_28 0 rfl ?_
    obtain rfl := inj1 h
    exact hret _ _ dX2_all_29
  replace eLL1 := lq2_ex eLL1
  obtain ⟨nL1, eLL1⟩ := eLL1
  have hLL1 : ∀ (nL1 : Nat) (x2 : Int64) (x3 : Int32), lpf2 (t_all_L1 σ q) nL1 x2 x3 = some x4 → At G 4 σ [(0, .ref (xad X q)), (1, .long x2), (3, .int x3)] [] 4 := by
    intro nL1
    induction nL1 with
    | zero => intro x2 x3 eL1; exact (lpf2_0 eL1).elim
    | succ nL1 ihL1 =>
      intro x2 x3 eL1
      replace eL1 := lpf2_s eL1
      obtain ⟨qL1, eL1, hqL1⟩ := eL1
      rw [t_all_L1] at eL1
      refine A_iload_n Γ dX2_all_4 2 rfl ?_
      refine A_aload_n Γ dX2_all_5 0 rfl ?_
      replace eL1 := b1 eL1
      obtain ⟨v5, e6, eL1⟩ := eL1
      refine gTX2_7 Γ Ξ hq rfl e6 dX2_all_6 ?_
      refine A_icmp_ge (t := 28) Γ dX2_all_9 (by decide) (fun c => ?_) (fun c => ?_)
      · replace eL1 := it_t c eL1
        obtain rfl := pr1 (lpx2 eL1 hqL1)
        exact A_sub [1] rfl hXL1
      · replace eL1 := it_f c eL1
        refine A_lload_n Γ dX2_all_12 1 rfl ?_
        refine A_aload_n Γ dX2_all_13 0 rfl ?_
        replace eL1 := b1 eL1
        obtain ⟨n7, e8, eL1⟩ := eL1
        refine gTX2_8 Γ Ξ hq rfl e8 dX2_all_14 ?_
        refine A_iload_n Γ dX2_all_17 2 rfl ?_
        replace eL1 := b1 eL1
        obtain ⟨v9, e10, eL1⟩ := eL1
        refine A_aldD Γ Ξ (kInt_w hq) rfl e10 dX2_all_18 ?_
        refine A_i2l Γ dX2_all_19 ?_
        refine A_ladd Γ dX2_all_20 ?_
        refine A_lstore_n (lv' := [(1, .long (x2 + v9.toInt64)), (0, .ref (xad X q)), (3, .int x3)]) Γ dX2_all_21 (by decide) rfl ?_
        refine A_iinc (v := x3 + 1) (lv' := [(3, .int (x3 + 1)), (1, .long (x2 + v9.toInt64)), (0, .ref (xad X q))]) Γ dX2_all_22 2 rfl rfl (by decide) rfl ?_
        refine A_goto (t := 4) Γ dX2_all_25 (by decide) ?_
        exact A_sub [2, 1, 0] rfl (ihL1 _ _ (lpc2 eL1 hqL1))
  exact A_sub [2, 1, 0] rfl (hLL1 _ _ _ eLL1)
theorem mtX2_all (l : Launch) (X : Xw) {σ : St} {q : Nat} (hq : kTr q) {r : Int64} (h : t_all σ q = some r) : MetZ 0 l X yX2_all cX2_all 4 (some .long) 0 0 [.ref (xad X q)] σ (some (.long r)) σ := MetZ.ofAt (by decide) (Nat.le_of_ble_eq_true rfl) (fun G _ Γ Ξ hR hret => wkX2_all Γ Ξ hR hq h hret)
theorem kTX2_all {G : Gx} {X : Xw} {cc : ByteArray} {nL pc F LO q n : Nat} {v : Value} {σ : St} {lv : List (Nat × Value)} {st : List Value} (Γ : Ok G RX2 cc nL) (Ξ : OkX 0 G X) (hq : kTr q) (hv : v = .ref (xad X q)) (hL : cL σ q = some n)  {r : Int64} (hRm : Rm G F LO) (hf : 0 + 1 ≤ F) (hlo : 8 + (4 + 11) + 0 ≤ LO) (h : t_all σ q = some r) (hW : (st.map fun v => v.category).sum ≤ 8) (d : decode cc pc = .ok (.invokevirtual 45, 3)) (kk : At G nL σ lv (.long r :: st) (pc + 3)) : At G nL σ lv (v :: st) pc :=
  A_callU Γ Ξ hq hL hv (mtX2_all (gl G) X hq h) (fun hn => n4 (P := fun n => va_CU (gR G) (gs G) (gar G) RX2 (CT n) RX2 45 yX2_all yX2_all cX2_all 4 (some .long) (ws_ yX2_all cX2_all 4 (some .long)) (rmF 0 0) 0 0 0)
    (va_cwU 0 Γ.2.2.2.2 (lw_U q887 q862 q861 q860 q75 q866) rfl rfl rfl rfl (by decide +kernel) (rm_ok hRm hf hlo))
    (va_cwU 0 Γ.2.2.2.2 (lw_U q887 q862 q863 q860 q75 q866) rfl rfl rfl rfl (by decide +kernel) (rm_ok hRm hf hlo))
    (va_cwU 0 Γ.2.2.2.2 (lw_U q887 q862 q865 q860 q75 q866) rfl rfl rfl rfl (by decide +kernel) (rm_ok hRm hf hlo))
    (va_cwU 0 Γ.2.2.2.2 (lw_U q887 q862 q864 q860 q75 q866) rfl rfl rfl rfl (by decide +kernel) (rm_ok hRm hf hlo)) n hn) (rm_k hRm) rfl rfl hW d kk
theorem kTX0_all {G : Gx} {X : Xw} {cc : ByteArray} {nL pc F LO q n : Nat} {v : Value} {σ : St} {lv : List (Nat × Value)} {st : List Value} (Γ : Ok G RX0 cc nL) (Ξ : OkX 0 G X) (hq : kTr q) (hv : v = .ref (xad X q)) (hL : cL σ q = some n)  {r : Int64} (hRm : Rm G F LO) (hf : 0 + 1 ≤ F) (hlo : 8 + (4 + 11) + 0 ≤ LO) (h : t_all σ q = some r) (hW : (st.map fun v => v.category).sum ≤ 8) (d : decode cc pc = .ok (.invokevirtual 352, 3)) (kk : At G nL σ lv (.long r :: st) (pc + 3)) : At G nL σ lv (v :: st) pc :=
  A_callU Γ Ξ hq hL hv (mtX2_all (gl G) X hq h) (fun hn => n4 (P := fun n => va_CU (gR G) (gs G) (gar G) RX0 (CT n) RX2 352 yX2_all yX2_all cX2_all 4 (some .long) (ws_ yX2_all cX2_all 4 (some .long)) (rmF 0 0) 0 0 0)
    (va_cwU 0 Γ.2.2.2.2 (lw_U q859 q862 q861 q860 q75 q866) rfl rfl rfl rfl (by decide +kernel) (rm_ok hRm hf hlo))
    (va_cwU 0 Γ.2.2.2.2 (lw_U q859 q862 q863 q860 q75 q866) rfl rfl rfl rfl (by decide +kernel) (rm_ok hRm hf hlo))
    (va_cwU 0 Γ.2.2.2.2 (lw_U q859 q862 q865 q860 q75 q866) rfl rfl rfl rfl (by decide +kernel) (rm_ok hRm hf hlo))
    (va_cwU 0 Γ.2.2.2.2 (lw_U q859 q862 q864 q860 q75 q866) rfl rfl rfl rfl (by decide +kernel) (rm_ok hRm hf hlo)) n hn) (rm_k hRm) rfl rfl hW d kk
set_option maxHeartbeats 4000000 in
set_option maxRecDepth 100000 in
theorem wkX2_isLawful {G : Gx} {X : Xw} {σ : St} {q : Nat} {a1 : Int32} (Γ : Ok G RX2 cX2_isLawful 6) (Ξ : OkX 0 G X) (hRm : Rm G 1 23) (hq : kTr q) {r : Int32} (h : t_isLawful σ q a1 = some r) (hret : ∀ (pc : Nat) (lv : List (Nat × Value)), retIs cX2_isLawful (some .boolean) (some (.int r)) pc → At G 6 σ lv [.int r] pc) : At G 6 σ [(0, .ref (xad X q)), (1, .int a1)] [] 0 := by
  rw [t_isLawful] at h
  refine A_aload_n Γ dX2_isLawful_0 0 rfl ?_
  replace h := b1 h
  obtain ⟨n1, e2, h⟩ := h
  replace h := b1 h
  obtain ⟨v3, e4, h⟩ := h
  refine kTX2_turning Γ Ξ hq rfl e2 hRm (by decide) (by decide) e4 (Nat.le_of_ble_eq_true rfl) dX2_isLawful_1 ?_
  refine A_lstore_n (lv' := [(2, .long v3), (0, .ref (xad X q)), (1, .int a1)]) Γ dX2_isLawful_4 (by decide) rfl ?_
  refine A_aload_n Γ dX2_isLawful_5 1 rfl ?_
  replace h := b1 h
  obtain ⟨n5, e6, h⟩ := h
  replace h := b1 h
  obtain ⟨v7, e8, h⟩ := h
  refine kTX2_all Γ Ξ hq rfl e6 hRm (by decide) (by decide) e8 (Nat.le_of_ble_eq_true rfl) dX2_isLawful_6 ?_
  refine A_iload_n Γ dX2_isLawful_9 2 rfl ?_
  refine A_i2l Γ dX2_isLawful_10 ?_
  refine A_lmul Γ dX2_isLawful_11 ?_
  refine A_lload_n Γ dX2_isLawful_12 0 rfl ?_
  refine A_lsub Γ dX2_isLawful_13 ?_
  refine A_lstore (lv' := [(4, .long ((v7 * a1.toInt64) - v3)), (2, .long v3), (0, .ref (xad X q)), (1, .int a1)]) Γ dX2_isLawful_14 (by decide) rfl ?_
  refine A_lload_n Γ dX2_isLawful_16 1 rfl ?_
  refine A_aload_n Γ dX2_isLawful_17 2 rfl ?_
  replace h := b1 h
  obtain ⟨n9, e10, h⟩ := h
  refine gOX2 Γ Ξ hq rfl e10 dX2_isLawful_18 ?_
  refine gNX2_20 Γ Ξ dX2_isLawful_21 ?_
  refine A_i2l Γ dX2_isLawful_24 ?_
  refine A_iload_n Γ dX2_isLawful_25 3 rfl ?_
  refine A_i2l Γ dX2_isLawful_26 ?_
  refine A_lmul Γ dX2_isLawful_27 ?_
  refine A_lcmp Γ dX2_isLawful_28 ?_
  replace h := b1 h
  obtain ⟨x12, eJ11, h⟩ := h
  have hJJ11 : At G 6 σ [] [.int x12] 61 := by
    replace h := b1 h
    obtain ⟨v16, e15, h⟩ := h
    obtain ⟨rfl, hze15⟩ := bZ_in e15
    obtain rfl := inj1 h
    exact hret _ _ ⟨dX2_isLawful_61, hze15⟩
  refine A_if_gt (t := 60) Γ dX2_isLawful_29 (by decide) (fun c => ?_) (fun c => ?_)
  · replace eJ11 := it_t c eJ11
    refine A_iconst (v := 0) Γ dX2_isLawful_60 (by decide) ?_
    obtain rfl := inj1 eJ11
    exact A_sub [] rfl hJJ11
  · replace eJ11 := it_f c eJ11
    refine A_lload Γ dX2_isLawful_32 0 rfl ?_
    refine A_aload_n Γ dX2_isLawful_34 2 rfl ?_
    replace eJ11 := b1 eJ11
    obtain ⟨n13, e14, eJ11⟩ := eJ11
    refine gOX2 Γ Ξ hq rfl e14 dX2_isLawful_35 ?_
    refine gNX2_21 Γ Ξ dX2_isLawful_38 ?_
    refine A_i2l Γ dX2_isLawful_41 ?_
    refine A_iload_n Γ dX2_isLawful_42 3 rfl ?_
    refine A_i2l Γ dX2_isLawful_43 ?_
    refine A_lmul Γ dX2_isLawful_44 ?_
    refine A_lcmp Γ dX2_isLawful_45 ?_
    refine A_if_gt (t := 60) Γ dX2_isLawful_46 (by decide) (fun c => ?_) (fun c => ?_)
    · replace eJ11 := it_t c eJ11
      refine A_iconst (v := 0) Γ dX2_isLawful_60 (by decide) ?_
      obtain rfl := inj1 eJ11
      exact A_sub [] rfl hJJ11
    · replace eJ11 := it_f c eJ11
      refine A_lload Γ dX2_isLawful_49 0 rfl ?_
      refine A_lconst (v := 0) Γ dX2_isLawful_51 (by decide) ?_
      refine A_lcmp Γ dX2_isLawful_52 ?_
      refine A_if_lt (t := 60) Γ dX2_isLawful_53 (by decide) (fun c => ?_) (fun c => ?_)
      · replace eJ11 := it_t c eJ11
        refine A_iconst (v := 0) Γ dX2_isLawful_60 (by decide) ?_
        obtain rfl := inj1 eJ11
        exact A_sub [] rfl hJJ11
      · replace eJ11 := it_f c eJ11
        refine A_iconst (v := 1) Γ dX2_isLawful_56 (by decide) ?_
        refine A_goto (t := 61) Γ dX2_isLawful_57 (by decide) ?_
        obtain rfl := inj1 eJ11
        exact A_sub [] rfl hJJ11
theorem mtX2_isLawful (l : Launch) (X : Xw) {σ : St} {q : Nat} {a1 : Int32} (hq : kTr q) {r : Int32} (h : t_isLawful σ q a1 = some r) : MetZ 0 l X yX2_isLawful cX2_isLawful 6 (some .boolean) 1 23 [.ref (xad X q), .int a1] σ (some (.int r)) σ := MetZ.ofAt (by decide) (Nat.le_of_ble_eq_true rfl) (fun G _ Γ Ξ hR hret => wkX2_isLawful Γ Ξ hR hq h hret)
theorem kTX0_isLawful {G : Gx} {X : Xw} {cc : ByteArray} {nL pc F LO q n : Nat} {v : Value} {σ : St} {lv : List (Nat × Value)} {st : List Value} (Γ : Ok G RX0 cc nL) (Ξ : OkX 0 G X) (hq : kTr q) (hv : v = .ref (xad X q)) (hL : cL σ q = some n) {a1 : Int32} {r : Int32} (hRm : Rm G F LO) (hf : 1 + 1 ≤ F) (hlo : 8 + (6 + 11) + 23 ≤ LO) (h : t_isLawful σ q a1 = some r) (hW : (st.map fun v => v.category).sum ≤ 8) (d : decode cc pc = .ok (.invokevirtual 359, 3)) (kk : At G nL σ lv (.int r :: st) (pc + 3)) : At G nL σ lv (.int a1 :: v :: st) pc :=
  A_callU Γ Ξ hq hL hv (mtX2_isLawful (gl G) X hq h) (fun hn => n4 (P := fun n => va_CU (gR G) (gs G) (gar G) RX0 (CT n) RX2 359 yX2_isLawful yX2_isLawful cX2_isLawful 6 (some .boolean) (ws_ yX2_isLawful cX2_isLawful 6 (some .boolean)) (rmF 1 23) 0 0 1)
    (va_cwU 1 Γ.2.2.2.2 (lw_U q878 q881 q880 q879 q75 q885) rfl rfl rfl rfl (by decide +kernel) (rm_ok hRm hf hlo))
    (va_cwU 1 Γ.2.2.2.2 (lw_U q878 q881 q882 q879 q75 q885) rfl rfl rfl rfl (by decide +kernel) (rm_ok hRm hf hlo))
    (va_cwU 1 Γ.2.2.2.2 (lw_U q878 q881 q884 q879 q75 q885) rfl rfl rfl rfl (by decide +kernel) (rm_ok hRm hf hlo))
    (va_cwU 1 Γ.2.2.2.2 (lw_U q878 q881 q883 q879 q75 q885) rfl rfl rfl rfl (by decide +kernel) (rm_ok hRm hf hlo)) n hn) (rm_k hRm) rfl rfl hW d kk
