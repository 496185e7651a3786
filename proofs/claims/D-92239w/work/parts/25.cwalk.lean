set_option maxHeartbeats 4000000 in
set_option maxRecDepth 100000 in
theorem wkX0_in {G : Gx} {X : Xw} {σ : St} {a0 : Int32} {a1 : Int32} {a2 : Int32} (Γ : Ok G RX0 cX0_in 3) (hkp : ∀ (H H1 : Heap), gP G σ H → (∀ q : Nat, q < H.size → H1[q]? = H[q]?) → gP G σ H1) (hRm : Rm G 0 0) {r : Int32} (h : c_in a0 a1 a2 = some r) (hret : ∀ (pc : Nat) (lv : List (Nat × Value)), retIs cX0_in (some .boolean) (some (.int r)) pc → At G 3 σ lv [.int r] pc) : At G 3 σ [(0, .int a0), (1, .int a1), (2, .int a2)] [] 0 := by
  rw [c_in] at h
  refine A_iload_n Γ dX0_in_0 0 rfl ?_
  refine A_iload_n Γ dX0_in_1 1 rfl ?_
  replace h := b1 h
  obtain ⟨x2, eJ1, h⟩ := h
  have hJJ1 : At G 3 σ [] [.int x2] 15 := by
    replace h := b1 h
    obtain ⟨v4, e3, h⟩ := h
    obtain ⟨rfl, hze3⟩ := bZ_in e3
    obtain rfl := inj1 h
    exact hret _ _ ⟨dX0_in_15, hze3⟩
  refine A_icmp_lt (t := 14) Γ dX0_in_2 (by decide) (fun c => ?_) (fun c => ?_)
  · replace eJ1 := it_t c eJ1
    refine A_iconst (v := 0) Γ dX0_in_14 (by decide) ?_
    obtain rfl := inj1 eJ1
    exact A_sub [] rfl hJJ1
  · replace eJ1 := it_f c eJ1
    refine A_iload_n Γ dX0_in_5 0 rfl ?_
    refine A_iload_n Γ dX0_in_6 2 rfl ?_
    refine A_icmp_gt (t := 14) Γ dX0_in_7 (by decide) (fun c => ?_) (fun c => ?_)
    · replace eJ1 := it_t c eJ1
      refine A_iconst (v := 0) Γ dX0_in_14 (by decide) ?_
      obtain rfl := inj1 eJ1
      exact A_sub [] rfl hJJ1
    · replace eJ1 := it_f c eJ1
      refine A_iconst (v := 1) Γ dX0_in_10 (by decide) ?_
      refine A_goto (t := 15) Γ dX0_in_11 (by decide) ?_
      obtain rfl := inj1 eJ1
      exact A_sub [] rfl hJJ1
theorem mtX0_in (l : Launch) {a0 : Int32} {a1 : Int32} {a2 : Int32} {r : Int32} (h : c_in a0 a1 a2 = some r) : MetS l yX0_in cX0_in 3 (some .boolean) 0 0 [.int a0, .int a1, .int a2] (some (.int r)) := MetS.ofAt ((fun _ => 0), (fun _ => 0), (fun _ _ => 0), (fun _ _ => 0), fun _ => none) (by decide) (Nat.le_of_ble_eq_true rfl) (fun G _ Γ hR hp hret => wkX0_in (X := (0, (fun _ => 0), (fun _ => 0), (fun _ _ => 0), (fun _ => 0), (fun _ => True))) Γ hp hR h hret)
theorem kX0_X0in {G : Gx} {cc : ByteArray} {nL pc F LO : Nat} {σ : St} {lv : List (Nat × Value)} {st : List Value} (Γ : Ok G RX0 cc nL) (hkp : ∀ (H H1 : Heap), gP G σ H → (∀ q : Nat, q < H.size → H1[q]? = H[q]?) → gP G σ H1) {a0 : Int32} {a1 : Int32} {a2 : Int32} {r : Int32} (hRm : Rm G F LO) (hf : 0 + 1 ≤ F) (hlo : 8 + (3 + 11) + 0 ≤ LO) (h : c_in a0 a1 a2 = some r) (hW : (st.map fun v => v.category).sum ≤ 8) (d : decode cc pc = .ok (.invokestatic 171, 3)) (kk : At G nL σ lv (.int r :: st) (pc + 3)) : At G nL σ lv (.int a2 :: .int a1 :: .int a0 :: st) pc := A_callS Γ hkp rfl (mtX0_in (gl G) h) (lw_S q394 q395 q63 q396) (n := 3) (by decide +kernel) (rm_ok hRm hf hlo) (rm_k hRm) rfl rfl hW d kk
set_option maxHeartbeats 4000000 in
set_option maxRecDepth 100000 in
theorem wkX0_found {G : Gx} {X : Xw} {σ σ' : St} {a1 : Int32} (Γ : Ok G RX0 cX0_found 2) (Ξ : OkX 0 G X) (hRm : Rm G 0 0) {r : Int32} (h : c_found σ a1 = some (r, σ')) (hret : ∀ (pc : Nat) (lv : List (Nat × Value)), retIs cX0_found (some .int) (some (.int r)) pc → At G 2 σ' lv [.int r] pc) : At G 2 σ [(0, .ref (xo X)), (1, .int a1)] [] 0 := by
  rw [c_found] at h
  refine A_aload_n Γ dX0_found_0 0 rfl ?_
  refine A_iload_n Γ dX0_found_1 1 rfl ?_
  refine p0_0 Γ Ξ dX0_found_2 ?_
  refine A_aload_n Γ dX0_found_5 0 rfl ?_
  refine g0_1 Γ Ξ dX0_found_6 ?_
  refine A_iload_n Γ dX0_found_9 1 rfl ?_
  refine A_dup2 Γ dX0_found_10 rfl rfl ?_
  replace h := b1 h
  obtain ⟨v1, e2, h⟩ := h
  refine r0_1 Γ Ξ e2 dX0_found_11 ?_
  refine A_iconst (v := 1) Γ dX0_found_12 (by decide) ?_
  refine A_iadd Γ dX0_found_13 ?_
  replace h := b1 h
  obtain ⟨σ3, e4, h⟩ := h
  refine w0_1 Γ Ξ e4 dX0_found_14 ?_
  refine A_bipush (v := (-3)) Γ dX0_found_15 (by decide) ?_
  obtain ⟨rfl, rfl⟩ := inj2 h
  exact hret _ _ dX0_found_17
theorem mtX0_found (l : Launch) (X : Xw) {σ σ' : St} {a1 : Int32} {r : Int32} (h : c_found σ a1 = some (r, σ')) : MetZ 0 l X yX0_found cX0_found 2 (some .int) 0 0 [.ref (xo X), .int a1] σ (some (.int r)) σ' := MetZ.ofAt (by decide) (Nat.le_of_ble_eq_true rfl) (fun G _ Γ Ξ hR hret => wkX0_found Γ Ξ hR h hret)
theorem kX0_X0found {G : Gx} {X : Xw} {cc : ByteArray} {nL pc F LO : Nat} {σ σ' : St} {lv : List (Nat × Value)} {st : List Value} (Γ : Ok G RX0 cc nL) (Ξ : OkX 0 G X) {a1 : Int32} {r : Int32} (hRm : Rm G F LO) (hf : 0 + 1 ≤ F) (hlo : 8 + (2 + 11) + 0 ≤ LO) (h : c_found σ a1 = some (r, σ')) (hW : (st.map fun v => v.category).sum ≤ 8) (d : decode cc pc = .ok (.invokevirtual 181, 3)) (kk : At G nL σ' lv (.int r :: st) (pc + 3)) : At G nL σ lv (.int a1 :: .ref (xo X) :: st) pc := A_callV Γ Ξ rfl rfl (mtX0_found (gl G) X h) (lw_V q397 q399 qs2 q63 q400) (n := 1) (by decide +kernel) (rm_ok hRm hf hlo) (rm_k hRm) rfl rfl hW d kk
set_option maxHeartbeats 4000000 in
set_option maxRecDepth 100000 in
theorem wkX0_say {G : Gx} {X : Xw} {σ σ' : St} {a1 : Int32} {a2 : Int32} (Γ : Ok G RX0 cX0_say 3) (Ξ : OkX 0 G X) (hRm : Rm G 0 0) {r : Int32} (h : c_say σ a1 a2 = some (r, σ')) (hret : ∀ (pc : Nat) (lv : List (Nat × Value)), retIs cX0_say (some .int) (some (.int r)) pc → At G 3 σ' lv [.int r] pc) : At G 3 σ [(0, .ref (xo X)), (1, .int a1), (2, .int a2)] [] 0 := by
  rw [c_say] at h
  refine A_aload_n Γ dX0_say_0 0 rfl ?_
  refine A_iload_n Γ dX0_say_1 1 rfl ?_
  refine p0_2 Γ Ξ dX0_say_2 ?_
  refine A_iload_n Γ dX0_say_5 2 rfl ?_
  obtain ⟨rfl, rfl⟩ := inj2 h
  exact hret _ _ dX0_say_6
theorem mtX0_say (l : Launch) (X : Xw) {σ σ' : St} {a1 : Int32} {a2 : Int32} {r : Int32} (h : c_say σ a1 a2 = some (r, σ')) : MetZ 0 l X yX0_say cX0_say 3 (some .int) 0 0 [.ref (xo X), .int a1, .int a2] σ (some (.int r)) σ' := MetZ.ofAt (by decide) (Nat.le_of_ble_eq_true rfl) (fun G _ Γ Ξ hR hret => wkX0_say Γ Ξ hR h hret)
theorem kX0_X0say {G : Gx} {X : Xw} {cc : ByteArray} {nL pc F LO : Nat} {σ σ' : St} {lv : List (Nat × Value)} {st : List Value} (Γ : Ok G RX0 cc nL) (Ξ : OkX 0 G X) {a1 : Int32} {a2 : Int32} {r : Int32} (hRm : Rm G F LO) (hf : 0 + 1 ≤ F) (hlo : 8 + (3 + 11) + 0 ≤ LO) (h : c_say σ a1 a2 = some (r, σ')) (hW : (st.map fun v => v.category).sum ≤ 8) (d : decode cc pc = .ok (.invokevirtual 185, 3)) (kk : At G nL σ' lv (.int r :: st) (pc + 3)) : At G nL σ lv (.int a2 :: .int a1 :: .ref (xo X) :: st) pc := A_callV Γ Ξ rfl rfl (mtX0_say (gl G) X h) (lw_V q449 q451 qs3 q63 q452) (n := 2) (by decide +kernel) (rm_ok hRm hf hlo) (rm_k hRm) rfl rfl hW d kk
set_option maxHeartbeats 4000000 in
set_option maxRecDepth 100000 in
theorem wkX0_asked {G : Gx} {X : Xw} {σ : St}  (Γ : Ok G RX0 cX0_asked 1) (Ξ : OkX 0 G X) (hRm : Rm G 0 0) {r : Int32} (h : c_asked σ = some r) (hret : ∀ (pc : Nat) (lv : List (Nat × Value)), retIs cX0_asked (some .int) (some (.int r)) pc → At G 1 σ lv [.int r] pc) : At G 1 σ [(0, .ref (xo X))] [] 0 := by
  rw [c_asked] at h
  refine A_aload_n Γ dX0_asked_0 0 rfl ?_
  refine g0_2 Γ Ξ dX0_asked_1 ?_
  obtain rfl := inj1 h
  exact hret _ _ dX0_asked_4
theorem mtX0_asked (l : Launch) (X : Xw) {σ : St}  {r : Int32} (h : c_asked σ = some r) : MetZ 0 l X yX0_asked cX0_asked 1 (some .int) 0 0 [.ref (xo X)] σ (some (.int r)) σ := MetZ.ofAt (by decide) (Nat.le_of_ble_eq_true rfl) (fun G _ Γ Ξ hR hret => wkX0_asked Γ Ξ hR h hret)

set_option maxHeartbeats 4000000 in
set_option maxRecDepth 100000 in
theorem wkX0_fraction {G : Gx} {X : Xw} {σ σ' : St} {a1 : Int64} {a3 : Int64} {a5 : Int32} (Γ : Ok G RX0 cX0_fraction 12) (Ξ : OkX 0 G X) (hRm : Rm G 1 21) {r : Int32} (h : c_fraction σ a1 a3 a5 = some (r, σ')) (hret : ∀ (pc : Nat) (lv : List (Nat × Value)), retIs cX0_fraction (some .int) (some (.int r)) pc → At G 12 σ' lv [.int r] pc) : At G 12 σ [(0, .ref (xo X)), (1, .long a1), (3, .long a3), (5, .int a5)] [] 0 := by
  rw [c_fraction] at h
  refine A_lload_n Γ dX0_fraction_0 1 rfl ?_
  replace h := b1 h
  obtain ⟨v2, e1, h⟩ := h
  refine kX0_J8abs Γ (kpX Ξ) hRm (by decide) (by decide) e1 (Nat.le_of_ble_eq_true rfl) dX0_fraction_1 ?_
  refine A_lstore (lv' := [(6, .long v2), (0, .ref (xo X)), (1, .long a1), (3, .long a3), (5, .int a5)]) Γ dX0_fraction_4 (by decide) rfl ?_
  refine A_lload_n Γ dX0_fraction_6 3 rfl ?_
  refine A_lstore (lv' := [(8, .long a3), (6, .long v2), (0, .ref (xo X)), (1, .long a1), (3, .long a3), (5, .int a5)]) Γ dX0_fraction_7 (by decide) rfl ?_
  replace h := b1 h
  obtain ⟨x6, eLL3, h⟩ := h
  have hXL3 : At G 12 σ [(0, .ref (xo X)), (1, .long a1), (3, .long a3), (5, .int a5), (6, .long x6)] [] 34 := by
    refine A_aload_n Γ dX0_fraction_34 0 rfl ?_
    refine A_lload_n Γ dX0_fraction_35 1 rfl ?_
    refine A_lload Γ dX0_fraction_36 4 rfl ?_
    replace h := b1 h
    obtain ⟨v10, e9, h⟩ := h
    obtain ⟨rfl, hze9⟩ := nzL_in e9
    refine A_ldiv Γ dX0_fraction_38 hze9 ?_
    refine p0_3 Γ Ξ dX0_fraction_39 ?_
    refine A_aload_n Γ dX0_fraction_42 0 rfl ?_
    refine A_lload_n Γ dX0_fraction_43 2 rfl ?_
    refine A_lload Γ dX0_fraction_44 4 rfl ?_
    replace h := b1 h
    obtain ⟨v12, e11, h⟩ := h
    obtain ⟨rfl, hze11⟩ := nzL_in e11
    refine A_ldiv Γ dX0_fraction_46 hze11 ?_
    refine p0_4 Γ Ξ dX0_fraction_47 ?_
    refine A_iload Γ dX0_fraction_50 3 rfl ?_
    obtain ⟨rfl, rfl⟩ := inj2 h
    exact hret _ _ dX0_fraction_52
  replace eLL3 := lq2_ex eLL3
  obtain ⟨nL3, eLL3⟩ := eLL3
  have hLL3 : ∀ (nL3 : Nat) (x4 : Int64) (x5 : Int64), lpf2 (c_fraction_L3) nL3 x4 x5 = some x6 → At G 12 σ [(0, .ref (xo X)), (1, .long a1), (3, .long a3), (5, .int a5), (6, .long x4), (8, .long x5)] [] 9 := by
    intro nL3
    induction nL3 with
    | zero => intro x4 x5 eL3; exact (lpf2_0 eL3).elim
    | succ nL3 ihL3 =>
      intro x4 x5 eL3
      replace eL3 := lpf2_s eL3
      obtain ⟨qL3, eL3, hqL3⟩ := eL3
      rw [c_fraction_L3] at eL3
      refine A_lload Γ dX0_fraction_9 5 rfl ?_
      refine A_lconst (v := 0) Γ dX0_fraction_11 (by decide) ?_
      refine A_lcmp Γ dX0_fraction_12 ?_
      refine A_if_eq (t := 34) Γ dX0_fraction_13 (by decide) (fun c => ?_) (fun c => ?_)
      · replace eL3 := it_t c eL3
        obtain rfl := pr1 (lpx2 eL3 hqL3)
        exact A_sub [0, 1, 2, 3, 4] rfl hXL3
      · replace eL3 := it_f c eL3
        refine A_lload Γ dX0_fraction_16 4 rfl ?_
        refine A_lload Γ dX0_fraction_18 5 rfl ?_
        replace eL3 := b1 eL3
        obtain ⟨v8, e7, eL3⟩ := eL3
        obtain ⟨rfl, hze7⟩ := nzL_in e7
        refine A_lrem Γ dX0_fraction_20 hze7 ?_
        refine A_lstore (lv' := [(10, .long (x4 - x4 / x5 * x5)), (0, .ref (xo X)), (1, .long a1), (3, .long a3), (5, .int a5), (6, .long x4), (8, .long x5)]) Γ dX0_fraction_21 (by decide) rfl ?_
        refine A_lload Γ dX0_fraction_23 6 rfl ?_
        refine A_lstore (lv' := [(6, .long x5), (10, .long (x4 - x4 / x5 * x5)), (0, .ref (xo X)), (1, .long a1), (3, .long a3), (5, .int a5), (8, .long x5)]) Γ dX0_fraction_25 (by decide) rfl ?_
        refine A_lload Γ dX0_fraction_27 1 rfl ?_
        refine A_lstore (lv' := [(8, .long (x4 - x4 / x5 * x5)), (6, .long x5), (10, .long (x4 - x4 / x5 * x5)), (0, .ref (xo X)), (1, .long a1), (3, .long a3), (5, .int a5)]) Γ dX0_fraction_29 (by decide) rfl ?_
        refine A_goto (t := 9) Γ dX0_fraction_31 (by decide) ?_
        exact A_sub [3, 4, 5, 6, 1, 0] rfl (ihL3 _ _ (lpc2 eL3 hqL3))
  exact A_sub [2, 3, 4, 5, 1, 0] rfl (hLL3 _ _ _ eLL3)
theorem mtX0_fraction (l : Launch) (X : Xw) {σ σ' : St} {a1 : Int64} {a3 : Int64} {a5 : Int32} {r : Int32} (h : c_fraction σ a1 a3 a5 = some (r, σ')) : MetZ 0 l X yX0_fraction cX0_fraction 12 (some .int) 1 21 [.ref (xo X), .long a1, .long a3, .int a5] σ (some (.int r)) σ' := MetZ.ofAt (by decide) (Nat.le_of_ble_eq_true rfl) (fun G _ Γ Ξ hR hret => wkX0_fraction Γ Ξ hR h hret)
theorem kX0_X0fraction {G : Gx} {X : Xw} {cc : ByteArray} {nL pc F LO : Nat} {σ σ' : St} {lv : List (Nat × Value)} {st : List Value} (Γ : Ok G RX0 cc nL) (Ξ : OkX 0 G X) {a1 : Int64} {a3 : Int64} {a5 : Int32} {r : Int32} (hRm : Rm G F LO) (hf : 1 + 1 ≤ F) (hlo : 8 + (12 + 11) + 21 ≤ LO) (h : c_fraction σ a1 a3 a5 = some (r, σ')) (hW : (st.map fun v => v.category).sum ≤ 8) (d : decode cc pc = .ok (.invokevirtual 355, 3)) (kk : At G nL σ' lv (.int r :: st) (pc + 3)) : At G nL σ lv (.int a5 :: .long a3 :: .long a1 :: .ref (xo X) :: st) pc := A_callV Γ Ξ rfl rfl (mtX0_fraction (gl G) X h) (lw_V q867 q869 qs15 q63 q870) (n := 3) (by decide +kernel) (rm_ok hRm hf hlo) (rm_k hRm) rfl rfl hW d kk
set_option maxHeartbeats 4000000 in
set_option maxRecDepth 100000 in
theorem wkX0_upper {G : Gx} {X : Xw} {σ : St}  (Γ : Ok G RX0 cX0_upper 1) (Ξ : OkX 0 G X) (hRm : Rm G 0 0) {r : Int64} (h : c_upper σ = some r) (hret : ∀ (pc : Nat) (lv : List (Nat × Value)), retIs cX0_upper (some .long) (some (.long r)) pc → At G 1 σ lv [.long r] pc) : At G 1 σ [(0, .ref (xo X))] [] 0 := by
  rw [c_upper] at h
  refine A_aload_n Γ dX0_upper_0 0 rfl ?_
  refine g0_3 Γ Ξ dX0_upper_1 ?_
  obtain rfl := inj1 h
  exact hret _ _ dX0_upper_4
theorem mtX0_upper (l : Launch) (X : Xw) {σ : St}  {r : Int64} (h : c_upper σ = some r) : MetZ 0 l X yX0_upper cX0_upper 1 (some .long) 0 0 [.ref (xo X)] σ (some (.long r)) σ := MetZ.ofAt (by decide) (Nat.le_of_ble_eq_true rfl) (fun G _ Γ Ξ hR hret => wkX0_upper Γ Ξ hR h hret)

set_option maxHeartbeats 4000000 in
set_option maxRecDepth 100000 in
theorem wkX0_lower {G : Gx} {X : Xw} {σ : St}  (Γ : Ok G RX0 cX0_lower 1) (Ξ : OkX 0 G X) (hRm : Rm G 0 0) {r : Int64} (h : c_lower σ = some r) (hret : ∀ (pc : Nat) (lv : List (Nat × Value)), retIs cX0_lower (some .long) (some (.long r)) pc → At G 1 σ lv [.long r] pc) : At G 1 σ [(0, .ref (xo X))] [] 0 := by
  rw [c_lower] at h
  refine A_aload_n Γ dX0_lower_0 0 rfl ?_
  refine g0_4 Γ Ξ dX0_lower_1 ?_
  obtain rfl := inj1 h
  exact hret _ _ dX0_lower_4
theorem mtX0_lower (l : Launch) (X : Xw) {σ : St}  {r : Int64} (h : c_lower σ = some r) : MetZ 0 l X yX0_lower cX0_lower 1 (some .long) 0 0 [.ref (xo X)] σ (some (.long r)) σ := MetZ.ofAt (by decide) (Nat.le_of_ble_eq_true rfl) (fun G _ Γ Ξ hR hret => wkX0_lower Γ Ξ hR h hret)

set_option maxHeartbeats 4000000 in
set_option maxRecDepth 100000 in
theorem wkX0_isRow {G : Gx} {X : Xw} {σ : St} {a0 : Int32} (Γ : Ok G RX0 cX0_isRow 1) (hkp : ∀ (H H1 : Heap), gP G σ H → (∀ q : Nat, q < H.size → H1[q]? = H[q]?) → gP G σ H1) (hRm : Rm G 1 22) {r : Int32} (h : c_isRow a0 = some r) (hret : ∀ (pc : Nat) (lv : List (Nat × Value)), retIs cX0_isRow (some .boolean) (some (.int r)) pc → At G 1 σ lv [.int r] pc) : At G 1 σ [(0, .int a0)] [] 0 := by
  rw [c_isRow] at h
  refine A_iload_n Γ dX0_isRow_0 0 rfl ?_
  refine A_iconst (v := 0) Γ dX0_isRow_1 (by decide) ?_
  refine A_iconst (v := 5) Γ dX0_isRow_2 (by decide) ?_
  replace h := b1 h
  obtain ⟨v2, e1, h⟩ := h
  refine kX0_X0in Γ hkp hRm (by decide) (by decide) e1 (Nat.le_of_ble_eq_true rfl) dX0_isRow_3 ?_
  replace h := b1 h
  obtain ⟨v4, e3, h⟩ := h
  obtain ⟨rfl, hze3⟩ := bZ_in e3
  obtain rfl := inj1 h
  exact hret _ _ ⟨dX0_isRow_6, hze3⟩
theorem mtX0_isRow (l : Launch) {a0 : Int32} {r : Int32} (h : c_isRow a0 = some r) : MetS l yX0_isRow cX0_isRow 1 (some .boolean) 1 22 [.int a0] (some (.int r)) := MetS.ofAt ((fun _ => 0), (fun _ => 0), (fun _ _ => 0), (fun _ _ => 0), fun _ => none) (by decide) (Nat.le_of_ble_eq_true rfl) (fun G _ Γ hR hp hret => wkX0_isRow (X := (0, (fun _ => 0), (fun _ => 0), (fun _ _ => 0), (fun _ => 0), (fun _ => True))) Γ hp hR h hret)
theorem kX0_X0isRow {G : Gx} {cc : ByteArray} {nL pc F LO : Nat} {σ : St} {lv : List (Nat × Value)} {st : List Value} (Γ : Ok G RX0 cc nL) (hkp : ∀ (H H1 : Heap), gP G σ H → (∀ q : Nat, q < H.size → H1[q]? = H[q]?) → gP G σ H1) {a0 : Int32} {r : Int32} (hRm : Rm G F LO) (hf : 1 + 1 ≤ F) (hlo : 8 + (1 + 11) + 22 ≤ LO) (h : c_isRow a0 = some r) (hW : (st.map fun v => v.category).sum ≤ 8) (d : decode cc pc = .ok (.invokestatic 175, 3)) (kk : At G nL σ lv (.int r :: st) (pc + 3)) : At G nL σ lv (.int a0 :: st) pc := A_callS Γ hkp rfl (mtX0_isRow (gl G) h) (lw_S q391 q392 q63 q393) (n := 1) (by decide +kernel) (rm_ok hRm hf hlo) (rm_k hRm) rfl rfl hW d kk
set_option maxHeartbeats 4000000 in
set_option maxRecDepth 100000 in
theorem wkX0_tear {G : Gx} {X : Xw} {σ σ' : St} {a1 : Int32} (Γ : Ok G RX0 cX0_tear 2) (Ξ : OkX 0 G X) (hRm : Rm G 2 42) {r : Int32} (h : c_tear σ a1 = some (r, σ')) (hret : ∀ (pc : Nat) (lv : List (Nat × Value)), retIs cX0_tear (some .int) (some (.int r)) pc → At G 2 σ' lv [.int r] pc) : At G 2 σ [(0, .ref (xo X)), (1, .int a1)] [] 0 := by
  rw [c_tear] at h
  refine A_iload_n Γ dX0_tear_0 1 rfl ?_
  replace h := b1 h
  obtain ⟨v2, e1, h⟩ := h
  refine kX0_X0isRow Γ (kpX Ξ) hRm (by decide) (by decide) e1 (Nat.le_of_ble_eq_true rfl) dX0_tear_1 ?_
  refine A_if_ne (t := 9) Γ dX0_tear_4 (by decide) (fun c => ?_) (fun c => ?_)
  · replace h := it_f c h
    refine A_aload_n Γ dX0_tear_9 0 rfl ?_
    refine g0_5 Γ Ξ dX0_tear_10 ?_
    refine A_iload_n Γ dX0_tear_13 1 rfl ?_
    replace h := b1 h
    obtain ⟨k3, e4, h⟩ := h
    refine A_rows Γ Ξ e4 dX0_tear_14 ?_
    refine A_ifnonnull (t := 24) Γ dX0_tear_15 (by decide) (fun cn5 => ?_) (fun cn5 => ?_)
    · replace h := it_t cn5 h
      refine A_aload_n Γ dX0_tear_24 0 rfl ?_
      refine g0_5 Γ Ξ dX0_tear_25 ?_
      refine A_iload_n Γ dX0_tear_28 1 rfl ?_
      refine A_null Γ dX0_tear_29 ?_
      replace h := b1 h
      obtain ⟨k6, e7, h⟩ := h
      refine A_tearN Γ Ξ e7 dX0_tear_30 ?_
      refine A_iconst (v := 1) Γ dX0_tear_31 (by decide) ?_
      obtain ⟨rfl, rfl⟩ := inj2 h
      exact hret _ _ dX0_tear_32
    · replace h := it_f cn5 h
      refine A_aload_n Γ dX0_tear_18 0 rfl ?_
      refine A_iconst (v := 1) Γ dX0_tear_19 (by decide) ?_
      replace h := b2 h
      obtain ⟨v9, σ10, e8, h⟩ := h
      refine kX0_X0found Γ Ξ hRm (by decide) (by decide) e8 (Nat.le_of_ble_eq_true rfl) dX0_tear_20 ?_
      obtain ⟨rfl, rfl⟩ := inj2 h
      exact hret _ _ dX0_tear_23
  · replace h := it_t c h
    refine A_iconst (v := (-1)) Γ dX0_tear_7 (by decide) ?_
    obtain ⟨rfl, rfl⟩ := inj2 h
    exact hret _ _ dX0_tear_8
theorem mtX0_tear (l : Launch) (X : Xw) {σ σ' : St} {a1 : Int32} {r : Int32} (h : c_tear σ a1 = some (r, σ')) : MetZ 0 l X yX0_tear cX0_tear 2 (some .int) 2 42 [.ref (xo X), .int a1] σ (some (.int r)) σ' := MetZ.ofAt (by decide) (Nat.le_of_ble_eq_true rfl) (fun G _ Γ Ξ hR hret => wkX0_tear Γ Ξ hR h hret)

set_option maxHeartbeats 4000000 in
set_option maxRecDepth 100000 in
theorem wkX0_isText {G : Gx} {X : Xw} {σ : St} {a0 : Int32} (Γ : Ok G RX0 cX0_isText 1) (hkp : ∀ (H H1 : Heap), gP G σ H → (∀ q : Nat, q < H.size → H1[q]? = H[q]?) → gP G σ H1) (hRm : Rm G 1 22) {r : Int32} (h : c_isText a0 = some r) (hret : ∀ (pc : Nat) (lv : List (Nat × Value)), retIs cX0_isText (some .boolean) (some (.int r)) pc → At G 1 σ lv [.int r] pc) : At G 1 σ [(0, .int a0)] [] 0 := by
  rw [c_isText] at h
  refine A_iload_n Γ dX0_isText_0 0 rfl ?_
  refine A_iconst (v := 0) Γ dX0_isText_1 (by decide) ?_
  refine A_iconst (v := 3) Γ dX0_isText_2 (by decide) ?_
  replace h := b1 h
  obtain ⟨v2, e1, h⟩ := h
  refine kX0_X0in Γ hkp hRm (by decide) (by decide) e1 (Nat.le_of_ble_eq_true rfl) dX0_isText_3 ?_
  replace h := b1 h
  obtain ⟨v4, e3, h⟩ := h
  obtain ⟨rfl, hze3⟩ := bZ_in e3
  obtain rfl := inj1 h
  exact hret _ _ ⟨dX0_isText_6, hze3⟩
theorem mtX0_isText (l : Launch) {a0 : Int32} {r : Int32} (h : c_isText a0 = some r) : MetS l yX0_isText cX0_isText 1 (some .boolean) 1 22 [.int a0] (some (.int r)) := MetS.ofAt ((fun _ => 0), (fun _ => 0), (fun _ _ => 0), (fun _ _ => 0), fun _ => none) (by decide) (Nat.le_of_ble_eq_true rfl) (fun G _ Γ hR hp hret => wkX0_isText (X := (0, (fun _ => 0), (fun _ => 0), (fun _ _ => 0), (fun _ => 0), (fun _ => True))) Γ hp hR h hret)
theorem kX0_X0isText {G : Gx} {cc : ByteArray} {nL pc F LO : Nat} {σ : St} {lv : List (Nat × Value)} {st : List Value} (Γ : Ok G RX0 cc nL) (hkp : ∀ (H H1 : Heap), gP G σ H → (∀ q : Nat, q < H.size → H1[q]? = H[q]?) → gP G σ H1) {a0 : Int32} {r : Int32} (hRm : Rm G F LO) (hf : 1 + 1 ≤ F) (hlo : 8 + (1 + 11) + 22 ≤ LO) (h : c_isText a0 = some r) (hW : (st.map fun v => v.category).sum ≤ 8) (d : decode cc pc = .ok (.invokestatic 201, 3)) (kk : At G nL σ lv (.int r :: st) (pc + 3)) : At G nL σ lv (.int a0 :: st) pc := A_callS Γ hkp rfl (mtX0_isText (gl G) h) (lw_S q486 q487 q63 q488) (n := 1) (by decide +kernel) (rm_ok hRm hf hlo) (rm_k hRm) rfl rfl hW d kk
set_option maxHeartbeats 4000000 in
set_option maxRecDepth 100000 in
theorem wkX0_isFigure {G : Gx} {X : Xw} {σ : St} {a0 : Nat} {a1 : Int32} {a2 : Int32} (Γ : Ok G RX0 cX0_isFigure 3) (Ξ : OkX 0 G X) (hRm : Rm G 1 22) (ka0 : kByte a0) {r : Int32} (h : c_isFigure σ a0 a1 a2 = some r) (hret : ∀ (pc : Nat) (lv : List (Nat × Value)), retIs cX0_isFigure (some .boolean) (some (.int r)) pc → At G 3 σ lv [.int r] pc) : At G 3 σ [(0, .ref (xad X a0)), (1, .int a1), (2, .int a2)] [] 0 := by
  rw [c_isFigure] at h
  refine A_iload_n Γ dX0_isFigure_0 1 rfl ?_
  refine A_aload_n Γ dX0_isFigure_1 0 rfl ?_
  replace h := b1 h
  obtain ⟨n1, e2, h⟩ := h
  refine A_alenD Γ Ξ (Or.inr ka0) rfl e2 dX0_isFigure_2 ?_
  replace h := b1 h
  obtain ⟨x4, eJ3, h⟩ := h
  have hJJ3 : At G 3 σ [] [.int x4] 26 := by
    replace h := b1 h
    obtain ⟨v10, e9, h⟩ := h
    obtain ⟨rfl, hze9⟩ := bZ_in e9
    obtain rfl := inj1 h
    exact hret _ _ ⟨dX0_isFigure_26, hze9⟩
  refine A_icmp_ge (t := 25) Γ dX0_isFigure_3 (by decide) (fun c => ?_) (fun c => ?_)
  · replace eJ3 := it_t c eJ3
    refine A_iconst (v := 0) Γ dX0_isFigure_25 (by decide) ?_
    obtain rfl := inj1 eJ3
    exact A_sub [] rfl hJJ3
  · replace eJ3 := it_f c eJ3
    refine A_aload_n Γ dX0_isFigure_6 0 rfl ?_
    refine A_iload_n Γ dX0_isFigure_7 1 rfl ?_
    replace eJ3 := b1 eJ3
    obtain ⟨v5, e6, eJ3⟩ := eJ3
    refine A_baldD Γ Ξ ka0 rfl e6 dX0_isFigure_8 ?_
    refine A_bipush (v := 48) Γ dX0_isFigure_9 (by decide) ?_
    refine A_bipush (v := 48) Γ dX0_isFigure_11 (by decide) ?_
    refine A_iload_n Γ dX0_isFigure_13 2 rfl ?_
    refine A_iadd Γ dX0_isFigure_14 ?_
    replace eJ3 := b1 eJ3
    obtain ⟨v8, e7, eJ3⟩ := eJ3
    refine kX0_X0in Γ (kpX Ξ) hRm (by decide) (by decide) e7 (Nat.le_of_ble_eq_true rfl) dX0_isFigure_15 ?_
    refine A_if_eq (t := 25) Γ dX0_isFigure_18 (by decide) (fun c => ?_) (fun c => ?_)
    · replace eJ3 := it_t c eJ3
      refine A_iconst (v := 0) Γ dX0_isFigure_25 (by decide) ?_
      obtain rfl := inj1 eJ3
      exact A_sub [] rfl hJJ3
    · replace eJ3 := it_f c eJ3
      refine A_iconst (v := 1) Γ dX0_isFigure_21 (by decide) ?_
      refine A_goto (t := 26) Γ dX0_isFigure_22 (by decide) ?_
      obtain rfl := inj1 eJ3
      exact A_sub [] rfl hJJ3
theorem mtX0_isFigure (l : Launch) (X : Xw) {σ : St} {a0 : Nat} {a1 : Int32} {a2 : Int32} (ka0 : kByte a0) {r : Int32} (h : c_isFigure σ a0 a1 a2 = some r) : MetZ 0 l X yX0_isFigure cX0_isFigure 3 (some .boolean) 1 22 [.ref (xad X a0), .int a1, .int a2] σ (some (.int r)) σ := MetZ.ofAt (by decide) (Nat.le_of_ble_eq_true rfl) (fun G _ Γ Ξ hR hret => wkX0_isFigure Γ Ξ hR ka0 h hret)
theorem kX0_X0isFigure {G : Gx} {X : Xw} {cc : ByteArray} {nL pc F LO : Nat} {σ : St} {lv : List (Nat × Value)} {st : List Value} (Γ : Ok G RX0 cc nL) (Ξ : OkX 0 G X) {a0 : Nat} {a1 : Int32} {a2 : Int32} {r : Int32} (hRm : Rm G F LO) (hf : 1 + 1 ≤ F) (hlo : 8 + (3 + 11) + 22 ≤ LO) (ka0 : kByte a0) (h : c_isFigure σ a0 a1 a2 = some r) (hW : (st.map fun v => v.category).sum ≤ 8) (d : decode cc pc = .ok (.invokestatic 210, 3)) (kk : At G nL σ lv (.int r :: st) (pc + 3)) : At G nL σ lv (.int a2 :: .int a1 :: .ref (xad X a0) :: st) pc := A_callZ Γ Ξ rfl (mtX0_isFigure (gl G) X ka0 h) (lw_S q504 q505 q63 q506) (n := 3) (by decide +kernel) (rm_ok hRm hf hlo) (rm_k hRm) rfl rfl hW d kk
set_option maxHeartbeats 4000000 in
set_option maxRecDepth 100000 in
theorem wkX0_whatOf {G : Gx} {X : Xw} {σ : St} {a0 : Int32} (Γ : Ok G RX0 cX0_whatOf 1) (hkp : ∀ (H H1 : Heap), gP G σ H → (∀ q : Nat, q < H.size → H1[q]? = H[q]?) → gP G σ H1) (hRm : Rm G 0 0) {r : Int32} (h : c_whatOf a0 = some r) (hret : ∀ (pc : Nat) (lv : List (Nat × Value)), retIs cX0_whatOf (some .int) (some (.int r)) pc → At G 1 σ lv [.int r] pc) : At G 1 σ [(0, .int a0)] [] 0 := by
  rw [c_whatOf] at h
  refine A_iload_n Γ dX0_whatOf_0 0 rfl ?_
  refine A_bipush (v := 70) Γ dX0_whatOf_1 (by decide) ?_
  replace h := b1 h
  obtain ⟨x2, eJ1, h⟩ := h
  have hJJ1 : At G 1 σ [] [.int x2] 42 := by
    obtain rfl := inj1 h
    exact hret _ _ dX0_whatOf_42
  refine A_icmp_ne (t := 10) Γ dX0_whatOf_3 (by decide) (fun c => ?_) (fun c => ?_)
  · replace eJ1 := it_f c eJ1
    refine A_iload_n Γ dX0_whatOf_10 0 rfl ?_
    refine A_bipush (v := 68) Γ dX0_whatOf_11 (by decide) ?_
    refine A_icmp_ne (t := 20) Γ dX0_whatOf_13 (by decide) (fun c => ?_) (fun c => ?_)
    · replace eJ1 := it_f c eJ1
      refine A_iload_n Γ dX0_whatOf_20 0 rfl ?_
      refine A_bipush (v := 72) Γ dX0_whatOf_21 (by decide) ?_
      refine A_icmp_ne (t := 30) Γ dX0_whatOf_23 (by decide) (fun c => ?_) (fun c => ?_)
      · replace eJ1 := it_f c eJ1
        refine A_iload_n Γ dX0_whatOf_30 0 rfl ?_
        refine A_bipush (v := 82) Γ dX0_whatOf_31 (by decide) ?_
        refine A_icmp_ne (t := 40) Γ dX0_whatOf_33 (by decide) (fun c => ?_) (fun c => ?_)
        · replace eJ1 := it_f c eJ1
          refine A_bipush (v := (-9)) Γ dX0_whatOf_40 (by decide) ?_
          obtain rfl := inj1 eJ1
          exact A_sub [] rfl hJJ1
        · replace eJ1 := it_t c eJ1
          refine A_iconst (v := 3) Γ dX0_whatOf_36 (by decide) ?_
          refine A_goto (t := 42) Γ dX0_whatOf_37 (by decide) ?_
          obtain rfl := inj1 eJ1
          exact A_sub [] rfl hJJ1
      · replace eJ1 := it_t c eJ1
        refine A_iconst (v := 2) Γ dX0_whatOf_26 (by decide) ?_
        refine A_goto (t := 42) Γ dX0_whatOf_27 (by decide) ?_
        obtain rfl := inj1 eJ1
        exact A_sub [] rfl hJJ1
    · replace eJ1 := it_t c eJ1
      refine A_iconst (v := 1) Γ dX0_whatOf_16 (by decide) ?_
      refine A_goto (t := 42) Γ dX0_whatOf_17 (by decide) ?_
      obtain rfl := inj1 eJ1
      exact A_sub [] rfl hJJ1
  · replace eJ1 := it_t c eJ1
    refine A_iconst (v := 0) Γ dX0_whatOf_6 (by decide) ?_
    refine A_goto (t := 42) Γ dX0_whatOf_7 (by decide) ?_
    obtain rfl := inj1 eJ1
    exact A_sub [] rfl hJJ1
theorem mtX0_whatOf (l : Launch) {a0 : Int32} {r : Int32} (h : c_whatOf a0 = some r) : MetS l yX0_whatOf cX0_whatOf 1 (some .int) 0 0 [.int a0] (some (.int r)) := MetS.ofAt ((fun _ => 0), (fun _ => 0), (fun _ _ => 0), (fun _ _ => 0), fun _ => none) (by decide) (Nat.le_of_ble_eq_true rfl) (fun G _ Γ hR hp hret => wkX0_whatOf (X := (0, (fun _ => 0), (fun _ => 0), (fun _ _ => 0), (fun _ => 0), (fun _ => True))) Γ hp hR h hret)
theorem kX0_X0whatOf {G : Gx} {cc : ByteArray} {nL pc F LO : Nat} {σ : St} {lv : List (Nat × Value)} {st : List Value} (Γ : Ok G RX0 cc nL) (hkp : ∀ (H H1 : Heap), gP G σ H → (∀ q : Nat, q < H.size → H1[q]? = H[q]?) → gP G σ H1) {a0 : Int32} {r : Int32} (hRm : Rm G F LO) (hf : 0 + 1 ≤ F) (hlo : 8 + (1 + 11) + 0 ≤ LO) (h : c_whatOf a0 = some r) (hW : (st.map fun v => v.category).sum ≤ 8) (d : decode cc pc = .ok (.invokestatic 207, 3)) (kk : At G nL σ lv (.int r :: st) (pc + 3)) : At G nL σ lv (.int a0 :: st) pc := A_callS Γ hkp rfl (mtX0_whatOf (gl G) h) (lw_S q501 q502 q63 q503) (n := 1) (by decide +kernel) (rm_ok hRm hf hlo) (rm_k hRm) rfl rfl hW d kk
set_option maxHeartbeats 4000000 in
set_option maxRecDepth 100000 in
theorem wkX0_read {G : Gx} {X : Xw} {σ σ' : St} {a1 : Nat} (Γ : Ok G RX0 cX0_read 7) (Ξ : OkX 0 G X) (hRm : Rm G 2 44) (ka1 : kByte a1) {r : Int32} (h : c_read σ a1 = some (r, σ')) (hret : ∀ (pc : Nat) (lv : List (Nat × Value)), retIs cX0_read (some .int) (some (.int r)) pc → At G 7 σ' lv [.int r] pc) : At G 7 σ [(0, .ref (xo X)), (1, .ref (xad X a1))] [] 0 := by
  rw [c_read] at h
  refine A_aload_n Γ dX0_read_0 0 rfl ?_
  refine A_iconst (v := 0) Γ dX0_read_1 (by decide) ?_
  refine p0_7 Γ Ξ dX0_read_2 ?_
  refine A_iconst (v := 0) Γ dX0_read_5 (by decide) ?_
  refine A_istore_n (lv' := [(2, .int 0), (0, .ref (xo X)), (1, .ref (xad X a1))]) Γ dX0_read_6 (by decide) rfl ?_
  replace h := bR1 h
  obtain ⟨qqL1, eLL1, hsL1⟩ := h
  have hXL1 : ∀ (σ4 : St), qqL1 = .inl σ4 → At G 7 σ4 [] [] 178 := by
    intro σ4 e0
    rcases hsL1 with ⟨σ4z, e1, h⟩ | ⟨r1, e1, _⟩
    · cases e0.symm.trans e1
      refine A_bipush (v := (-9)) Γ dX0_read_178 (by decide) ?_
      obtain ⟨rfl, rfl⟩ := inj2 h
      exact hret _ _ dX0_read_180
    · cases e0.symm.trans e1
  have hRtL1 : ∀ w : Int32 × St, qqL1 = .inr w → some w = some (r, σ') := by
    intro w e0
    rcases hsL1 with ⟨σ4z, e1, _⟩ | ⟨r1, e1, h9⟩
    · cases e0.symm.trans e1
    · cases e0.symm.trans e1; exact h9
  replace eLL1 := lq2_ex eLL1
  obtain ⟨nL1, eLL1⟩ := eLL1
  have hLL1 : ∀ (nL1 : Nat) (σ2 : St) (x3 : Int32), lpf2 (c_read_L1 a1) nL1 σ2 x3 = some qqL1 → At G 7 σ2 [(0, .ref (xo X)), (1, .ref (xad X a1)), (2, .int x3)] [] 7 := by
    intro nL1
    induction nL1 with
    | zero => intro σ2 x3 eL1; exact (lpf2_0 eL1).elim
    | succ nL1 ihL1 =>
      intro σ2 x3 eL1
      replace eL1 := lpf2_s eL1
      obtain ⟨qL1, eL1, hqL1⟩ := eL1
      rw [c_read_L1] at eL1
      refine A_iload_n Γ dX0_read_7 2 rfl ?_
      refine A_aload_n Γ dX0_read_8 1 rfl ?_
      replace eL1 := b1 eL1
      obtain ⟨n5, e6, eL1⟩ := eL1
      refine A_alenD Γ Ξ (Or.inr ka1) rfl e6 dX0_read_9 ?_
      refine A_icmp_ge (t := 178) Γ dX0_read_10 (by decide) (fun c => ?_) (fun c => ?_)
      · replace eL1 := it_t c eL1
        exact A_sub [] rfl (hXL1 _ (lpx2 eL1 hqL1).symm)
      · replace eL1 := it_f c eL1
        refine A_aload_n Γ dX0_read_13 1 rfl ?_
        refine A_iload_n Γ dX0_read_14 2 rfl ?_
        replace eL1 := b1 eL1
        obtain ⟨v7, e8, eL1⟩ := eL1
        refine A_baldD Γ Ξ ka1 rfl e8 dX0_read_15 ?_
        refine A_bipush (v := 32) Γ dX0_read_16 (by decide) ?_
        refine A_icmp_ne (t := 27) Γ dX0_read_18 (by decide) (fun c => ?_) (fun c => ?_)
        · replace eL1 := it_f c eL1
          refine A_aload_n Γ dX0_read_27 1 rfl ?_
          refine A_iload_n Γ dX0_read_28 2 rfl ?_
          replace eL1 := b1 eL1
          obtain ⟨v9, e10, eL1⟩ := eL1
          refine A_baldD Γ Ξ ka1 rfl e10 dX0_read_29 ?_
          replace eL1 := b1 eL1
          obtain ⟨v12, e11, eL1⟩ := eL1
          refine kX0_X0whatOf Γ (kpX Ξ) hRm (by decide) (by decide) e11 (Nat.le_of_ble_eq_true rfl) dX0_read_30 ?_
          refine A_istore_n (lv' := [(3, .int v12), (0, .ref (xo X)), (1, .ref (xad X a1)), (2, .int x3)]) Γ dX0_read_33 (by decide) rfl ?_
          refine A_iload_n Γ dX0_read_34 0 rfl ?_
          refine A_bipush (v := (-9)) Γ dX0_read_35 (by decide) ?_
          refine A_icmp_ne (t := 42) Γ dX0_read_37 (by decide) (fun c => ?_) (fun c => ?_)
          · replace eL1 := it_f c eL1
            refine A_iinc (v := x3 + 1) (lv' := [(2, .int (x3 + 1)), (3, .int v12), (0, .ref (xo X)), (1, .ref (xad X a1))]) Γ dX0_read_42 3 rfl rfl (by decide) rfl ?_
            refine A_iconst (v := 0) Γ dX0_read_45 (by decide) ?_
            refine A_istore (lv' := [(4, .int 0), (2, .int (x3 + 1)), (3, .int v12), (0, .ref (xo X)), (1, .ref (xad X a1))]) Γ dX0_read_46 (by decide) rfl ?_
            refine A_iload_n Γ dX0_read_48 2 rfl ?_
            refine A_iconst (v := 2) Γ dX0_read_49 (by decide) ?_
            have hKK13 : ∀ (x14 : Int32) (x15 : Int32), c_read_K13 a1 σ2 v12 x14 x15 = some qL1 → At G 7 σ2 [(0, .ref (xo X)), (1, .ref (xad X a1)), (2, .int x14), (3, .int v12), (4, .int x15)] [] 76 := by
              clear eL1
              intro x14 x15 eL1
              rw [c_read_K13] at eL1
              refine A_aload_n Γ dX0_read_76 1 rfl ?_
              refine A_iload_n Γ dX0_read_77 2 rfl ?_
              refine A_bipush (v := 9) Γ dX0_read_78 (by decide) ?_
              replace eL1 := b1 eL1
              obtain ⟨v17, e16, eL1⟩ := eL1
              refine kX0_X0isFigure Γ Ξ hRm (by decide) (by decide) ka1 e16 (Nat.le_of_ble_eq_true rfl) dX0_read_80 ?_
              refine A_if_ne (t := 88) Γ dX0_read_83 (by decide) (fun c => ?_) (fun c => ?_)
              · replace eL1 := it_f c eL1
                refine A_iconst (v := 0) Γ dX0_read_88 (by decide) ?_
                refine A_istore (lv' := [(5, .int 0), (0, .ref (xo X)), (1, .ref (xad X a1)), (2, .int x14), (3, .int v12), (4, .int x15)]) Γ dX0_read_89 (by decide) rfl ?_
                refine A_iconst (v := 0) Γ dX0_read_91 (by decide) ?_
                refine A_istore (lv' := [(6, .int 0), (5, .int 0), (0, .ref (xo X)), (1, .ref (xad X a1)), (2, .int x14), (3, .int v12), (4, .int x15)]) Γ dX0_read_92 (by decide) rfl ?_
                replace eL1 := b2 eL1
                obtain ⟨x22, x23, eLL18, eL1⟩ := eL1
                have hXL18 : At G 7 σ2 [(0, .ref (xo X)), (1, .ref (xad X a1)), (2, .int x22), (3, .int v12), (4, .int x15), (5, .int x23)] [] 133 := by
                  refine A_aload_n Γ dX0_read_133 0 rfl ?_
                  refine g0_8 Γ Ξ dX0_read_134 ?_
                  refine A_aload_n Γ dX0_read_137 0 rfl ?_
                  refine g0_7 Γ Ξ dX0_read_138 ?_
                  refine A_iload_n Γ dX0_read_141 3 rfl ?_
                  replace eL1 := b1 eL1
                  obtain ⟨σ28, e29, eL1⟩ := eL1
                  refine w0_8 Γ Ξ e29 dX0_read_142 ?_
                  refine A_aload_n Γ dX0_read_143 0 rfl ?_
                  refine g0_9 Γ Ξ dX0_read_144 ?_
                  refine A_aload_n Γ dX0_read_147 0 rfl ?_
                  refine g0_7 Γ Ξ dX0_read_148 ?_
                  refine A_iload Γ dX0_read_151 4 rfl ?_
                  replace eL1 := b1 eL1
                  obtain ⟨σ30, e31, eL1⟩ := eL1
                  refine w0_9 Γ Ξ e31 dX0_read_153 ?_
                  refine A_aload_n Γ dX0_read_154 0 rfl ?_
                  refine g0_10 Γ Ξ dX0_read_155 ?_
                  refine A_aload_n Γ dX0_read_158 0 rfl ?_
                  refine g0_7 Γ Ξ dX0_read_159 ?_
                  refine A_iload Γ dX0_read_162 5 rfl ?_
                  replace eL1 := b1 eL1
                  obtain ⟨σ32, e33, eL1⟩ := eL1
                  refine w0_10 Γ Ξ e33 dX0_read_164 ?_
                  refine A_aload_n Γ dX0_read_165 0 rfl ?_
                  refine A_dup Γ dX0_read_166 rfl ?_
                  refine g0_7 Γ Ξ dX0_read_167 ?_
                  refine A_iconst (v := 1) Γ dX0_read_170 (by decide) ?_
                  refine A_iadd Γ dX0_read_171 ?_
                  refine p0_7 Γ Ξ dX0_read_172 ?_
                  refine A_goto (t := 7) Γ dX0_read_175 (by decide) ?_
                  exact A_sub [0, 1, 2] rfl (ihL1 _ _ (lpc2 eL1 hqL1))
                replace eLL18 := lq3_ex eLL18
                obtain ⟨nL18, eLL18⟩ := eLL18
                have hLL18 : ∀ (nL18 : Nat) (x19 : Int32) (x20 : Int32) (x21 : Int32), lpf3 (c_read_L18 a1 σ2) nL18 x19 x20 x21 = some (x22, x23) → At G 7 σ2 [(0, .ref (xo X)), (1, .ref (xad X a1)), (2, .int x19), (3, .int v12), (4, .int x15), (5, .int x20), (6, .int x21)] [] 94 := by
                  intro nL18
                  induction nL18 with
                  | zero => intro x19 x20 x21 eL18; exact (lpf3_0 eL18).elim
                  | succ nL18 ihL18 =>
                    intro x19 x20 x21 eL18
                    replace eL18 := lpf3_s eL18
                    obtain ⟨qL18, eL18, hqL18⟩ := eL18
                    rw [c_read_L18] at eL18
                    refine A_iload Γ dX0_read_94 6 rfl ?_
                    refine A_iconst (v := 4) Γ dX0_read_96 (by decide) ?_
                    refine A_icmp_ge (t := 133) Γ dX0_read_97 (by decide) (fun c => ?_) (fun c => ?_)
                    · replace eL18 := it_t c eL18
                      obtain ⟨rfl, rfl⟩ := pr2 (lpx3 eL18 hqL18)
                      exact A_sub [0, 1, 2, 3, 4, 5] rfl hXL18
                    · replace eL18 := it_f c eL18
                      refine A_aload_n Γ dX0_read_100 1 rfl ?_
                      refine A_iload_n Γ dX0_read_101 2 rfl ?_
                      refine A_bipush (v := 9) Γ dX0_read_102 (by decide) ?_
                      replace eL18 := b1 eL18
                      obtain ⟨v25, e24, eL18⟩ := eL18
                      refine kX0_X0isFigure Γ Ξ hRm (by decide) (by decide) ka1 e24 (Nat.le_of_ble_eq_true rfl) dX0_read_104 ?_
                      refine A_if_eq (t := 133) Γ dX0_read_107 (by decide) (fun c => ?_) (fun c => ?_)
                      · replace eL18 := it_t c eL18
                        obtain ⟨rfl, rfl⟩ := pr2 (lpx3 eL18 hqL18)
                        exact A_sub [0, 1, 2, 3, 4, 5] rfl hXL18
                      · replace eL18 := it_f c eL18
                        refine A_bipush (v := 10) Γ dX0_read_110 (by decide) ?_
                        refine A_iload Γ dX0_read_112 5 rfl ?_
                        refine A_imul Γ dX0_read_114 ?_
                        refine A_aload_n Γ dX0_read_115 1 rfl ?_
                        refine A_iload_n Γ dX0_read_116 2 rfl ?_
                        replace eL18 := b1 eL18
                        obtain ⟨v26, e27, eL18⟩ := eL18
                        refine A_baldD Γ Ξ ka1 rfl e27 dX0_read_117 ?_
                        refine A_iadd Γ dX0_read_118 ?_
                        refine A_bipush (v := 48) Γ dX0_read_119 (by decide) ?_
                        refine A_isub Γ dX0_read_121 ?_
                        refine A_istore (lv' := [(5, .int (((10 * x20) + v26) - 48)), (0, .ref (xo X)), (1, .ref (xad X a1)), (2, .int x19), (3, .int v12), (4, .int x15), (6, .int x21)]) Γ dX0_read_122 (by decide) rfl ?_
                        refine A_iinc (v := x19 + 1) (lv' := [(2, .int (x19 + 1)), (5, .int (((10 * x20) + v26) - 48)), (0, .ref (xo X)), (1, .ref (xad X a1)), (3, .int v12), (4, .int x15), (6, .int x21)]) Γ dX0_read_124 3 rfl rfl (by decide) rfl ?_
                        refine A_iinc (v := x21 + 1) (lv' := [(6, .int (x21 + 1)), (2, .int (x19 + 1)), (5, .int (((10 * x20) + v26) - 48)), (0, .ref (xo X)), (1, .ref (xad X a1)), (3, .int v12), (4, .int x15)]) Γ dX0_read_127 6 rfl rfl (by decide) rfl ?_
                        refine A_goto (t := 94) Γ dX0_read_130 (by decide) ?_
                        exact A_sub [3, 4, 1, 5, 6, 2, 0] rfl (ihL18 _ _ _ (lpc3 eL18 hqL18))
                exact A_sub [2, 3, 4, 5, 6, 1, 0] rfl (hLL18 _ _ _ _ eLL18)
              · replace eL1 := it_t c eL1
                refine A_iload_n Γ dX0_read_86 2 rfl ?_
                have rL1 := hRtL1 _ (lpx2 eL1 hqL1).symm
                obtain ⟨rfl, rfl⟩ := inj2 rL1
                exact hret _ _ dX0_read_87
            refine A_icmp_ge (t := 76) Γ dX0_read_50 (by decide) (fun c => ?_) (fun c => ?_)
            · replace eL1 := it_t c eL1
              exact A_sub [3, 4, 1, 2, 0] rfl (hKK13 _ _ eL1)
            · replace eL1 := it_f c eL1
              refine A_aload_n Γ dX0_read_53 4 rfl ?_
              refine A_iload_n Γ dX0_read_54 1 rfl ?_
              refine A_bipush (v := 7) Γ dX0_read_55 (by decide) ?_
              replace eL1 := b1 eL1
              obtain ⟨v35, e34, eL1⟩ := eL1
              refine kX0_X0isFigure Γ Ξ hRm (by decide) (by decide) ka1 e34 (Nat.le_of_ble_eq_true rfl) dX0_read_57 ?_
              refine A_if_ne (t := 65) Γ dX0_read_60 (by decide) (fun c => ?_) (fun c => ?_)
              · replace eL1 := it_f c eL1
                refine A_aload_n Γ dX0_read_65 4 rfl ?_
                refine A_iload_n Γ dX0_read_66 1 rfl ?_
                replace eL1 := b1 eL1
                obtain ⟨v36, e37, eL1⟩ := eL1
                refine A_baldD Γ Ξ ka1 rfl e37 dX0_read_67 ?_
                refine A_bipush (v := 48) Γ dX0_read_68 (by decide) ?_
                refine A_isub Γ dX0_read_70 ?_
                refine A_istore (lv' := [(4, .int (v36 - 48)), (2, .int (x3 + 1)), (3, .int v12), (0, .ref (xo X)), (1, .ref (xad X a1))]) Γ dX0_read_71 (by decide) rfl ?_
                refine A_iinc (v := (x3 + 1) + 1) (lv' := [(2, .int ((x3 + 1) + 1)), (4, .int (v36 - 48)), (3, .int v12), (0, .ref (xo X)), (1, .ref (xad X a1))]) Γ dX0_read_73 1 rfl rfl (by decide) rfl ?_
                exact A_sub [3, 4, 0, 2, 1] rfl (hKK13 _ _ eL1)
              · replace eL1 := it_t c eL1
                refine A_iload_n Γ dX0_read_63 1 rfl ?_
                have rL1 := hRtL1 _ (lpx2 eL1 hqL1).symm
                obtain ⟨rfl, rfl⟩ := inj2 rL1
                exact hret _ _ dX0_read_64
          · replace eL1 := it_t c eL1
            refine A_iload_n Γ dX0_read_40 3 rfl ?_
            have rL1 := hRtL1 _ (lpx2 eL1 hqL1).symm
            obtain ⟨rfl, rfl⟩ := inj2 rL1
            exact hret _ _ dX0_read_41
        · replace eL1 := it_t c eL1
          refine A_iinc (v := x3 + 1) (lv' := [(2, .int (x3 + 1)), (0, .ref (xo X)), (1, .ref (xad X a1))]) Γ dX0_read_21 2 rfl rfl (by decide) rfl ?_
          refine A_goto (t := 7) Γ dX0_read_24 (by decide) ?_
          exact A_sub [1, 2, 0] rfl (ihL1 _ _ (lpc2 eL1 hqL1))
  exact A_sub [1, 2, 0] rfl (hLL1 _ _ _ eLL1)
theorem mtX0_read (l : Launch) (X : Xw) {σ σ' : St} {a1 : Nat} (ka1 : kByte a1) {r : Int32} (h : c_read σ a1 = some (r, σ')) : MetZ 0 l X yX0_read cX0_read 7 (some .int) 2 44 [.ref (xo X), .ref (xad X a1)] σ (some (.int r)) σ' := MetZ.ofAt (by decide) (Nat.le_of_ble_eq_true rfl) (fun G _ Γ Ξ hR hret => wkX0_read Γ Ξ hR ka1 h hret)
theorem kX0_X0read {G : Gx} {X : Xw} {cc : ByteArray} {nL pc F LO : Nat} {σ σ' : St} {lv : List (Nat × Value)} {st : List Value} (Γ : Ok G RX0 cc nL) (Ξ : OkX 0 G X) {a1 : Nat} {r : Int32} (hRm : Rm G F LO) (hf : 2 + 1 ≤ F) (hlo : 8 + (7 + 11) + 44 ≤ LO) (ka1 : kByte a1) (h : c_read σ a1 = some (r, σ')) (hW : (st.map fun v => v.category).sum ≤ 8) (d : decode cc pc = .ok (.invokevirtual 214, 3)) (kk : At G nL σ' lv (.int r :: st) (pc + 3)) : At G nL σ lv (.ref (xad X a1) :: .ref (xo X) :: st) pc := A_callV Γ Ξ rfl rfl (mtX0_read (gl G) X ka1 h) (lw_V q497 q499 qs4 q63 q500) (n := 1) (by decide +kernel) (rm_ok hRm hf hlo) (rm_k hRm) rfl rfl hW d kk
set_option maxHeartbeats 4000000 in
set_option maxRecDepth 100000 in
theorem wkX0_fault {G : Gx} {X : Xw} {σ σ' : St} {a1 : Int32} (Γ : Ok G RX0 cX0_fault 2) (Ξ : OkX 0 G X) (hRm : Rm G 3 70) {r : Int32} (h : c_fault σ a1 = some (r, σ')) (hret : ∀ (pc : Nat) (lv : List (Nat × Value)), retIs cX0_fault (some .int) (some (.int r)) pc → At G 2 σ' lv [.int r] pc) : At G 2 σ [(0, .ref (xo X)), (1, .int a1)] [] 0 := by
  rw [c_fault] at h
  refine A_iload_n Γ dX0_fault_0 1 rfl ?_
  replace h := b1 h
  obtain ⟨v2, e1, h⟩ := h
  refine kX0_X0isText Γ (kpX Ξ) hRm (by decide) (by decide) e1 (Nat.le_of_ble_eq_true rfl) dX0_fault_1 ?_
  refine A_if_ne (t := 9) Γ dX0_fault_4 (by decide) (fun c => ?_) (fun c => ?_)
  · replace h := it_f c h
    refine A_aload_n Γ dX0_fault_9 0 rfl ?_
    refine g0_6 Γ Ξ dX0_fault_10 ?_
    refine A_iload_n Γ dX0_fault_13 1 rfl ?_
    replace h := b1 h
    obtain ⟨k3, e4, h⟩ := h
    refine A_texts Γ Ξ e4 dX0_fault_14 ?_
    replace h := b2 h
    obtain ⟨σ7, x8, eJ6, h⟩ := h
    have hJJ6 : At G 2 σ7 [] [.int x8] 36 := by
      obtain ⟨rfl, rfl⟩ := inj2 h
      exact hret _ _ dX0_fault_36
    refine A_ifnonnull (t := 26) Γ dX0_fault_15 (by decide) (fun cn5 => ?_) (fun cn5 => ?_)
    · replace eJ6 := it_t cn5 eJ6
      refine A_aload_n Γ dX0_fault_26 0 rfl ?_
      refine A_aload_n Γ dX0_fault_27 0 rfl ?_
      refine g0_6 Γ Ξ dX0_fault_28 ?_
      refine A_iload_n Γ dX0_fault_31 1 rfl ?_
      replace eJ6 := b1 eJ6
      obtain ⟨k9, e10, eJ6⟩ := eJ6
      refine A_textsD Γ Ξ e10 dX0_fault_32 ?_
      replace eJ6 := b2 eJ6
      obtain ⟨v12, σ13, e11, eJ6⟩ := eJ6
      refine kX0_X0read Γ Ξ hRm (by decide) (by decide) (kByte_textD e10) e11 (Nat.le_of_ble_eq_true rfl) dX0_fault_33 ?_
      obtain ⟨rfl, rfl⟩ := inj2 eJ6
      exact A_sub [] rfl hJJ6
    · replace eJ6 := it_f cn5 eJ6
      refine A_aload_n Γ dX0_fault_18 0 rfl ?_
      refine A_iconst (v := 1) Γ dX0_fault_19 (by decide) ?_
      replace eJ6 := b2 eJ6
      obtain ⟨v15, σ16, e14, eJ6⟩ := eJ6
      refine kX0_X0found Γ Ξ hRm (by decide) (by decide) e14 (Nat.le_of_ble_eq_true rfl) dX0_fault_20 ?_
      refine A_goto (t := 36) Γ dX0_fault_23 (by decide) ?_
      obtain ⟨rfl, rfl⟩ := inj2 eJ6
      exact A_sub [] rfl hJJ6
  · replace h := it_t c h
    refine A_iconst (v := (-1)) Γ dX0_fault_7 (by decide) ?_
    obtain ⟨rfl, rfl⟩ := inj2 h
    exact hret _ _ dX0_fault_8
theorem mtX0_fault (l : Launch) (X : Xw) {σ σ' : St} {a1 : Int32} {r : Int32} (h : c_fault σ a1 = some (r, σ')) : MetZ 0 l X yX0_fault cX0_fault 2 (some .int) 3 70 [.ref (xo X), .int a1] σ (some (.int r)) σ' := MetZ.ofAt (by decide) (Nat.le_of_ble_eq_true rfl) (fun G _ Γ Ξ hR hret => wkX0_fault Γ Ξ hR h hret)

set_option maxHeartbeats 4000000 in
set_option maxRecDepth 100000 in
theorem wkX0_isMinute {G : Gx} {X : Xw} {σ : St} {a0 : Int32} (Γ : Ok G RX0 cX0_isMinute 1) (hkp : ∀ (H H1 : Heap), gP G σ H → (∀ q : Nat, q < H.size → H1[q]? = H[q]?) → gP G σ H1) (hRm : Rm G 1 22) {r : Int32} (h : c_isMinute a0 = some r) (hret : ∀ (pc : Nat) (lv : List (Nat × Value)), retIs cX0_isMinute (some .boolean) (some (.int r)) pc → At G 1 σ lv [.int r] pc) : At G 1 σ [(0, .int a0)] [] 0 := by
  rw [c_isMinute] at h
  refine A_iload_n Γ dX0_isMinute_0 0 rfl ?_
  refine A_iconst (v := 0) Γ dX0_isMinute_1 (by decide) ?_
  refine A_ldc (v := 99999) Γ q511 dX0_isMinute_2 ?_
  replace h := b1 h
  obtain ⟨v2, e1, h⟩ := h
  refine kX0_X0in Γ hkp hRm (by decide) (by decide) e1 (Nat.le_of_ble_eq_true rfl) dX0_isMinute_4 ?_
  replace h := b1 h
  obtain ⟨v4, e3, h⟩ := h
  obtain ⟨rfl, hze3⟩ := bZ_in e3
  obtain rfl := inj1 h
  exact hret _ _ ⟨dX0_isMinute_7, hze3⟩
theorem mtX0_isMinute (l : Launch) {a0 : Int32} {r : Int32} (h : c_isMinute a0 = some r) : MetS l yX0_isMinute cX0_isMinute 1 (some .boolean) 1 22 [.int a0] (some (.int r)) := MetS.ofAt ((fun _ => 0), (fun _ => 0), (fun _ _ => 0), (fun _ _ => 0), fun _ => none) (by decide) (Nat.le_of_ble_eq_true rfl) (fun G _ Γ hR hp hret => wkX0_isMinute (X := (0, (fun _ => 0), (fun _ => 0), (fun _ _ => 0), (fun _ => 0), (fun _ => True))) Γ hp hR h hret)
theorem kX0_X0isMinute {G : Gx} {cc : ByteArray} {nL pc F LO : Nat} {σ : St} {lv : List (Nat × Value)} {st : List Value} (Γ : Ok G RX0 cc nL) (hkp : ∀ (H H1 : Heap), gP G σ H → (∀ q : Nat, q < H.size → H1[q]? = H[q]?) → gP G σ H1) {a0 : Int32} {r : Int32} (hRm : Rm G F LO) (hf : 1 + 1 ≤ F) (hlo : 8 + (1 + 11) + 22 ≤ LO) (h : c_isMinute a0 = some r) (hW : (st.map fun v => v.category).sum ≤ 8) (d : decode cc pc = .ok (.invokestatic 238, 3)) (kk : At G nL σ lv (.int r :: st) (pc + 3)) : At G nL σ lv (.int a0 :: st) pc := A_callS Γ hkp rfl (mtX0_isMinute (gl G) h) (lw_S q530 q531 q63 q532) (n := 1) (by decide +kernel) (rm_ok hRm hf hlo) (rm_k hRm) rfl rfl hW d kk
set_option maxHeartbeats 4000000 in
set_option maxRecDepth 100000 in
theorem wkX0_later {G : Gx} {X : Xw} {σ σ' : St} {a1 : Int32} (Γ : Ok G RX0 cX0_later 2) (Ξ : OkX 0 G X) (hRm : Rm G 0 0) {r : Int32} (h : c_later σ a1 = some (r, σ')) (hret : ∀ (pc : Nat) (lv : List (Nat × Value)), retIs cX0_later (some .int) (some (.int r)) pc → At G 2 σ' lv [.int r] pc) : At G 2 σ [(0, .ref (xo X)), (1, .int a1)] [] 0 := by
  rw [c_later] at h
  refine A_iload_n Γ dX0_later_0 1 rfl ?_
  refine A_if_lt (t := 15) Γ dX0_later_1 (by decide) (fun c => ?_) (fun c => ?_)
  · replace h := it_t c h
    refine A_iconst (v := (-1)) Γ dX0_later_15 (by decide) ?_
    obtain ⟨rfl, rfl⟩ := inj2 h
    exact hret _ _ dX0_later_16
  · replace h := it_f c h
    refine A_iload_n Γ dX0_later_4 1 rfl ?_
    refine A_ldc (v := 99999) Γ q511 dX0_later_5 ?_
    refine A_aload_n Γ dX0_later_7 0 rfl ?_
    refine g0_11 Γ Ξ dX0_later_8 ?_
    refine A_isub Γ dX0_later_11 ?_
    refine A_icmp_le (t := 17) Γ dX0_later_12 (by decide) (fun c => ?_) (fun c => ?_)
    · replace h := it_t c h
      refine A_aload_n Γ dX0_later_17 0 rfl ?_
      refine A_dup Γ dX0_later_18 rfl ?_
      refine g0_11 Γ Ξ dX0_later_19 ?_
      refine A_iload_n Γ dX0_later_22 1 rfl ?_
      refine A_iadd Γ dX0_later_23 ?_
      refine p0_11 Γ Ξ dX0_later_24 ?_
      refine A_aload_n Γ dX0_later_27 0 rfl ?_
      refine g0_11 Γ Ξ dX0_later_28 ?_
      obtain ⟨rfl, rfl⟩ := inj2 h
      exact hret _ _ dX0_later_31
    · replace h := it_f c h
      refine A_iconst (v := (-1)) Γ dX0_later_15 (by decide) ?_
      obtain ⟨rfl, rfl⟩ := inj2 h
      exact hret _ _ dX0_later_16
theorem mtX0_later (l : Launch) (X : Xw) {σ σ' : St} {a1 : Int32} {r : Int32} (h : c_later σ a1 = some (r, σ')) : MetZ 0 l X yX0_later cX0_later 2 (some .int) 0 0 [.ref (xo X), .int a1] σ (some (.int r)) σ' := MetZ.ofAt (by decide) (Nat.le_of_ble_eq_true rfl) (fun G _ Γ Ξ hR hret => wkX0_later Γ Ξ hR h hret)

set_option maxHeartbeats 4000000 in
set_option maxRecDepth 100000 in
theorem wkX0_isYard {G : Gx} {X : Xw} {σ : St} {a0 : Int32} (Γ : Ok G RX0 cX0_isYard 1) (hkp : ∀ (H H1 : Heap), gP G σ H → (∀ q : Nat, q < H.size → H1[q]? = H[q]?) → gP G σ H1) (hRm : Rm G 1 22) {r : Int32} (h : c_isYard a0 = some r) (hret : ∀ (pc : Nat) (lv : List (Nat × Value)), retIs cX0_isYard (some .boolean) (some (.int r)) pc → At G 1 σ lv [.int r] pc) : At G 1 σ [(0, .int a0)] [] 0 := by
  rw [c_isYard] at h
  refine A_iload_n Γ dX0_isYard_0 0 rfl ?_
  refine A_iconst (v := 0) Γ dX0_isYard_1 (by decide) ?_
  refine A_bipush (v := 7) Γ dX0_isYard_2 (by decide) ?_
  replace h := b1 h
  obtain ⟨v2, e1, h⟩ := h
  refine kX0_X0in Γ hkp hRm (by decide) (by decide) e1 (Nat.le_of_ble_eq_true rfl) dX0_isYard_4 ?_
  replace h := b1 h
  obtain ⟨v4, e3, h⟩ := h
  obtain ⟨rfl, hze3⟩ := bZ_in e3
  obtain rfl := inj1 h
  exact hret _ _ ⟨dX0_isYard_7, hze3⟩
theorem mtX0_isYard (l : Launch) {a0 : Int32} {r : Int32} (h : c_isYard a0 = some r) : MetS l yX0_isYard cX0_isYard 1 (some .boolean) 1 22 [.int a0] (some (.int r)) := MetS.ofAt ((fun _ => 0), (fun _ => 0), (fun _ _ => 0), (fun _ _ => 0), fun _ => none) (by decide) (Nat.le_of_ble_eq_true rfl) (fun G _ Γ hR hp hret => wkX0_isYard (X := (0, (fun _ => 0), (fun _ => 0), (fun _ _ => 0), (fun _ => 0), (fun _ => True))) Γ hp hR h hret)
theorem kX0_X0isYard {G : Gx} {cc : ByteArray} {nL pc F LO : Nat} {σ : St} {lv : List (Nat × Value)} {st : List Value} (Γ : Ok G RX0 cc nL) (hkp : ∀ (H H1 : Heap), gP G σ H → (∀ q : Nat, q < H.size → H1[q]? = H[q]?) → gP G σ H1) {a0 : Int32} {r : Int32} (hRm : Rm G F LO) (hf : 1 + 1 ≤ F) (hlo : 8 + (1 + 11) + 22 ≤ LO) (h : c_isYard a0 = some r) (hW : (st.map fun v => v.category).sum ≤ 8) (d : decode cc pc = .ok (.invokestatic 222, 3)) (kk : At G nL σ lv (.int r :: st) (pc + 3)) : At G nL σ lv (.int a0 :: st) pc := A_callS Γ hkp rfl (mtX0_isYard (gl G) h) (lw_S q516 q517 q63 q518) (n := 1) (by decide +kernel) (rm_ok hRm hf hlo) (rm_k hRm) rfl rfl hW d kk
set_option maxHeartbeats 4000000 in
set_option maxRecDepth 100000 in
theorem wkX0_both {G : Gx} {X : Xw} {σ σ' : St} {a0 : Nat} {a1 : Int32} {a2 : Int32} {a3 : Int32} (Γ : Ok G RX0 cX0_both 4) (Ξ : OkX 0 G X) (hRm : Rm G 0 0) (ka0 : kF64 a0)  (h : c_both σ a0 a1 a2 a3 = some σ') (hret : ∀ (pc : Nat) (lv : List (Nat × Value)), retIs cX0_both none (none) pc → At G 4 σ' lv [] pc) : At G 4 σ [(0, .ref (xad X a0)), (1, .int a1), (2, .int a2), (3, .int a3)] [] 0 := by
  rw [c_both] at h
  refine A_aload_n Γ dX0_both_0 0 rfl ?_
  refine A_bipush (v := 8) Γ dX0_both_1 (by decide) ?_
  refine A_iload_n Γ dX0_both_3 1 rfl ?_
  refine A_imul Γ dX0_both_4 ?_
  refine A_iload_n Γ dX0_both_5 2 rfl ?_
  refine A_iadd Γ dX0_both_6 ?_
  refine A_iload_n Γ dX0_both_7 3 rfl ?_
  replace h := b1 h
  obtain ⟨σ1, e2, h⟩ := h
  refine A_ast Γ Ξ ka0.1 (fun _ => ka0.1) ka0.2.1 ka0.2.2 e2 dX0_both_8 ?_
  refine A_aload_n Γ dX0_both_9 0 rfl ?_
  refine A_bipush (v := 8) Γ dX0_both_10 (by decide) ?_
  refine A_iload_n Γ dX0_both_12 2 rfl ?_
  refine A_imul Γ dX0_both_13 ?_
  refine A_iload_n Γ dX0_both_14 1 rfl ?_
  refine A_iadd Γ dX0_both_15 ?_
  refine A_iload_n Γ dX0_both_16 3 rfl ?_
  replace h := b1 h
  obtain ⟨σ3, e4, h⟩ := h
  refine A_ast Γ Ξ ka0.1 (fun _ => ka0.1) ka0.2.1 ka0.2.2 e4 dX0_both_17 ?_
  obtain rfl := inj1 h
  exact hret _ _ dX0_both_18
theorem mtX0_both (l : Launch) (X : Xw) {σ σ' : St} {a0 : Nat} {a1 : Int32} {a2 : Int32} {a3 : Int32} (ka0 : kF64 a0)  (h : c_both σ a0 a1 a2 a3 = some σ') : MetZ 0 l X yX0_both cX0_both 4 none 0 0 [.ref (xad X a0), .int a1, .int a2, .int a3] σ (none) σ' := MetZ.ofAt (by decide) (Nat.le_of_ble_eq_true rfl) (fun G _ Γ Ξ hR hret => wkX0_both Γ Ξ hR ka0 h hret)
theorem kX0_X0both {G : Gx} {X : Xw} {cc : ByteArray} {nL pc F LO : Nat} {σ σ' : St} {lv : List (Nat × Value)} {st : List Value} (Γ : Ok G RX0 cc nL) (Ξ : OkX 0 G X) {a0 : Nat} {a1 : Int32} {a2 : Int32} {a3 : Int32}  (hRm : Rm G F LO) (hf : 0 + 1 ≤ F) (hlo : 8 + (4 + 11) + 0 ≤ LO) (ka0 : kF64 a0) (h : c_both σ a0 a1 a2 a3 = some σ') (hW : (st.map fun v => v.category).sum ≤ 8) (d : decode cc pc = .ok (.invokestatic 225, 3)) (kk : At G nL σ' lv (st) (pc + 3)) : At G nL σ lv (.int a3 :: .int a2 :: .int a1 :: .ref (xad X a0) :: st) pc := A_callZ Γ Ξ rfl (mtX0_both (gl G) X ka0 h) (lw_S q519 q520 q63 q521) (n := 4) (by decide +kernel) (rm_ok hRm hf hlo) (rm_k hRm) rfl rfl hW d kk
set_option maxHeartbeats 4000000 in
set_option maxRecDepth 100000 in
theorem wkX0_way {G : Gx} {X : Xw} {σ σ' : St} {a1 : Int32} {a2 : Int32} {a3 : Int32} {a4 : Int32} (Γ : Ok G RX0 cX0_way 5) (Ξ : OkX 0 G X) (hRm : Rm G 2 42) {r : Int32} (h : c_way σ a1 a2 a3 a4 = some (r, σ')) (hret : ∀ (pc : Nat) (lv : List (Nat × Value)), retIs cX0_way (some .int) (some (.int r)) pc → At G 5 σ' lv [.int r] pc) : At G 5 σ [(0, .ref (xo X)), (1, .int a1), (2, .int a2), (3, .int a3), (4, .int a4)] [] 0 := by
  rw [c_way] at h
  refine A_iload_n Γ dX0_way_0 1 rfl ?_
  replace h := b1 h
  obtain ⟨v2, e1, h⟩ := h
  refine kX0_X0isYard Γ (kpX Ξ) hRm (by decide) (by decide) e1 (Nat.le_of_ble_eq_true rfl) dX0_way_1 ?_
  refine A_if_eq (t := 42) Γ dX0_way_4 (by decide) (fun c => ?_) (fun c => ?_)
  · replace h := it_t c h
    refine A_iconst (v := (-1)) Γ dX0_way_42 (by decide) ?_
    obtain ⟨rfl, rfl⟩ := inj2 h
    exact hret _ _ dX0_way_43
  · replace h := it_f c h
    refine A_iload_n Γ dX0_way_7 2 rfl ?_
    replace h := b1 h
    obtain ⟨v4, e3, h⟩ := h
    refine kX0_X0isYard Γ (kpX Ξ) hRm (by decide) (by decide) e3 (Nat.le_of_ble_eq_true rfl) dX0_way_8 ?_
    refine A_if_eq (t := 42) Γ dX0_way_11 (by decide) (fun c => ?_) (fun c => ?_)
    · replace h := it_t c h
      refine A_iconst (v := (-1)) Γ dX0_way_42 (by decide) ?_
      obtain ⟨rfl, rfl⟩ := inj2 h
      exact hret _ _ dX0_way_43
    · replace h := it_f c h
      refine A_iload_n Γ dX0_way_14 1 rfl ?_
      refine A_iload_n Γ dX0_way_15 2 rfl ?_
      refine A_icmp_eq (t := 42) Γ dX0_way_16 (by decide) (fun c => ?_) (fun c => ?_)
      · replace h := it_t c h
        refine A_iconst (v := (-1)) Γ dX0_way_42 (by decide) ?_
        obtain ⟨rfl, rfl⟩ := inj2 h
        exact hret _ _ dX0_way_43
      · replace h := it_f c h
        refine A_iload_n Γ dX0_way_19 3 rfl ?_
        refine A_iconst (v := 1) Γ dX0_way_20 (by decide) ?_
        refine A_sipush (v := 600) Γ dX0_way_21 (by decide) ?_
        replace h := b1 h
        obtain ⟨v6, e5, h⟩ := h
        refine kX0_X0in Γ (kpX Ξ) hRm (by decide) (by decide) e5 (Nat.le_of_ble_eq_true rfl) dX0_way_24 ?_
        refine A_if_eq (t := 42) Γ dX0_way_27 (by decide) (fun c => ?_) (fun c => ?_)
        · replace h := it_t c h
          refine A_iconst (v := (-1)) Γ dX0_way_42 (by decide) ?_
          obtain ⟨rfl, rfl⟩ := inj2 h
          exact hret _ _ dX0_way_43
        · replace h := it_f c h
          refine A_iload Γ dX0_way_30 4 rfl ?_
          refine A_iconst (v := 0) Γ dX0_way_32 (by decide) ?_
          refine A_sipush (v := 999) Γ dX0_way_33 (by decide) ?_
          replace h := b1 h
          obtain ⟨v8, e7, h⟩ := h
          refine kX0_X0in Γ (kpX Ξ) hRm (by decide) (by decide) e7 (Nat.le_of_ble_eq_true rfl) dX0_way_36 ?_
          refine A_if_ne (t := 44) Γ dX0_way_39 (by decide) (fun c => ?_) (fun c => ?_)
          · replace h := it_f c h
            refine A_aload_n Γ dX0_way_44 0 rfl ?_
            refine g0_12 Γ Ξ dX0_way_45 ?_
            refine A_iload_n Γ dX0_way_48 1 rfl ?_
            refine A_iload_n Γ dX0_way_49 2 rfl ?_
            refine A_iload_n Γ dX0_way_50 3 rfl ?_
            replace h := b1 h
            obtain ⟨σ10, e9, h⟩ := h
            refine kX0_X0both Γ Ξ hRm (by decide) (by decide) ⟨by decide, rfl, rfl⟩ e9 (Nat.le_of_ble_eq_true rfl) dX0_way_51 ?_
            refine A_aload_n Γ dX0_way_54 0 rfl ?_
            refine g0_13 Γ Ξ dX0_way_55 ?_
            refine A_iload_n Γ dX0_way_58 1 rfl ?_
            refine A_iload_n Γ dX0_way_59 2 rfl ?_
            refine A_iload Γ dX0_way_60 4 rfl ?_
            replace h := b1 h
            obtain ⟨σ12, e11, h⟩ := h
            refine kX0_X0both Γ Ξ hRm (by decide) (by decide) ⟨by decide, rfl, rfl⟩ e11 (Nat.le_of_ble_eq_true rfl) dX0_way_62 ?_
            refine A_aload_n Γ dX0_way_65 0 rfl ?_
            refine g0_14 Γ Ξ dX0_way_66 ?_
            refine A_iload_n Γ dX0_way_69 1 rfl ?_
            refine A_iload_n Γ dX0_way_70 2 rfl ?_
            refine A_iconst (v := 0) Γ dX0_way_71 (by decide) ?_
            replace h := b1 h
            obtain ⟨σ14, e13, h⟩ := h
            refine kX0_X0both Γ Ξ hRm (by decide) (by decide) ⟨by decide, rfl, rfl⟩ e13 (Nat.le_of_ble_eq_true rfl) dX0_way_72 ?_
            refine A_aload_n Γ dX0_way_75 0 rfl ?_
            refine g0_15 Γ Ξ dX0_way_76 ?_
            refine A_iload_n Γ dX0_way_79 1 rfl ?_
            refine A_iload_n Γ dX0_way_80 2 rfl ?_
            refine A_iconst (v := 0) Γ dX0_way_81 (by decide) ?_
            replace h := b1 h
            obtain ⟨σ16, e15, h⟩ := h
            refine kX0_X0both Γ Ξ hRm (by decide) (by decide) ⟨by decide, rfl, rfl⟩ e15 (Nat.le_of_ble_eq_true rfl) dX0_way_82 ?_
            refine A_iconst (v := 1) Γ dX0_way_85 (by decide) ?_
            obtain ⟨rfl, rfl⟩ := inj2 h
            exact hret _ _ dX0_way_86
          · replace h := it_t c h
            refine A_iconst (v := (-1)) Γ dX0_way_42 (by decide) ?_
            obtain ⟨rfl, rfl⟩ := inj2 h
            exact hret _ _ dX0_way_43
theorem mtX0_way (l : Launch) (X : Xw) {σ σ' : St} {a1 : Int32} {a2 : Int32} {a3 : Int32} {a4 : Int32} {r : Int32} (h : c_way σ a1 a2 a3 a4 = some (r, σ')) : MetZ 0 l X yX0_way cX0_way 5 (some .int) 2 42 [.ref (xo X), .int a1, .int a2, .int a3, .int a4] σ (some (.int r)) σ' := MetZ.ofAt (by decide) (Nat.le_of_ble_eq_true rfl) (fun G _ Γ Ξ hR hret => wkX0_way Γ Ξ hR h hret)

set_option maxHeartbeats 4000000 in
set_option maxRecDepth 100000 in
theorem wkX0_ferry {G : Gx} {X : Xw} {σ σ' : St} {a1 : Int32} {a2 : Int32} {a3 : Int32} {a4 : Int32} (Γ : Ok G RX0 cX0_ferry 5) (Ξ : OkX 0 G X) (hRm : Rm G 2 42) {r : Int32} (h : c_ferry σ a1 a2 a3 a4 = some (r, σ')) (hret : ∀ (pc : Nat) (lv : List (Nat × Value)), retIs cX0_ferry (some .int) (some (.int r)) pc → At G 5 σ' lv [.int r] pc) : At G 5 σ [(0, .ref (xo X)), (1, .int a1), (2, .int a2), (3, .int a3), (4, .int a4)] [] 0 := by
  rw [c_ferry] at h
  refine A_iload_n Γ dX0_ferry_0 1 rfl ?_
  replace h := b1 h
  obtain ⟨v2, e1, h⟩ := h
  refine kX0_X0isYard Γ (kpX Ξ) hRm (by decide) (by decide) e1 (Nat.le_of_ble_eq_true rfl) dX0_ferry_1 ?_
  refine A_if_eq (t := 37) Γ dX0_ferry_4 (by decide) (fun c => ?_) (fun c => ?_)
  · replace h := it_t c h
    refine A_iconst (v := (-1)) Γ dX0_ferry_37 (by decide) ?_
    obtain ⟨rfl, rfl⟩ := inj2 h
    exact hret _ _ dX0_ferry_38
  · replace h := it_f c h
    refine A_iload_n Γ dX0_ferry_7 2 rfl ?_
    replace h := b1 h
    obtain ⟨v4, e3, h⟩ := h
    refine kX0_X0isYard Γ (kpX Ξ) hRm (by decide) (by decide) e3 (Nat.le_of_ble_eq_true rfl) dX0_ferry_8 ?_
    refine A_if_eq (t := 37) Γ dX0_ferry_11 (by decide) (fun c => ?_) (fun c => ?_)
    · replace h := it_t c h
      refine A_iconst (v := (-1)) Γ dX0_ferry_37 (by decide) ?_
      obtain ⟨rfl, rfl⟩ := inj2 h
      exact hret _ _ dX0_ferry_38
    · replace h := it_f c h
      refine A_iload_n Γ dX0_ferry_14 3 rfl ?_
      refine A_iconst (v := 1) Γ dX0_ferry_15 (by decide) ?_
      refine A_sipush (v := 1440) Γ dX0_ferry_16 (by decide) ?_
      replace h := b1 h
      obtain ⟨v6, e5, h⟩ := h
      refine kX0_X0in Γ (kpX Ξ) hRm (by decide) (by decide) e5 (Nat.le_of_ble_eq_true rfl) dX0_ferry_19 ?_
      refine A_if_eq (t := 37) Γ dX0_ferry_22 (by decide) (fun c => ?_) (fun c => ?_)
      · replace h := it_t c h
        refine A_iconst (v := (-1)) Γ dX0_ferry_37 (by decide) ?_
        obtain ⟨rfl, rfl⟩ := inj2 h
        exact hret _ _ dX0_ferry_38
      · replace h := it_f c h
        refine A_iload Γ dX0_ferry_25 4 rfl ?_
        refine A_iconst (v := 0) Γ dX0_ferry_27 (by decide) ?_
        refine A_iload_n Γ dX0_ferry_28 3 rfl ?_
        refine A_iconst (v := 1) Γ dX0_ferry_29 (by decide) ?_
        refine A_isub Γ dX0_ferry_30 ?_
        replace h := b1 h
        obtain ⟨v8, e7, h⟩ := h
        refine kX0_X0in Γ (kpX Ξ) hRm (by decide) (by decide) e7 (Nat.le_of_ble_eq_true rfl) dX0_ferry_31 ?_
        refine A_if_ne (t := 39) Γ dX0_ferry_34 (by decide) (fun c => ?_) (fun c => ?_)
        · replace h := it_f c h
          refine A_aload_n Γ dX0_ferry_39 0 rfl ?_
          refine g0_12 Γ Ξ dX0_ferry_40 ?_
          refine A_bipush (v := 8) Γ dX0_ferry_43 (by decide) ?_
          refine A_iload_n Γ dX0_ferry_45 1 rfl ?_
          refine A_imul Γ dX0_ferry_46 ?_
          refine A_iload_n Γ dX0_ferry_47 2 rfl ?_
          refine A_iadd Γ dX0_ferry_48 ?_
          replace h := b1 h
          obtain ⟨v9, e10, h⟩ := h
          refine r0_12 Γ Ξ e10 dX0_ferry_49 ?_
          refine A_if_ne (t := 59) Γ dX0_ferry_50 (by decide) (fun c => ?_) (fun c => ?_)
          · replace h := it_f c h
            refine A_aload_n Γ dX0_ferry_59 0 rfl ?_
            refine g0_14 Γ Ξ dX0_ferry_60 ?_
            refine A_iload_n Γ dX0_ferry_63 1 rfl ?_
            refine A_iload_n Γ dX0_ferry_64 2 rfl ?_
            refine A_iload_n Γ dX0_ferry_65 3 rfl ?_
            replace h := b1 h
            obtain ⟨σ12, e11, h⟩ := h
            refine kX0_X0both Γ Ξ hRm (by decide) (by decide) ⟨by decide, rfl, rfl⟩ e11 (Nat.le_of_ble_eq_true rfl) dX0_ferry_66 ?_
            refine A_aload_n Γ dX0_ferry_69 0 rfl ?_
            refine g0_15 Γ Ξ dX0_ferry_70 ?_
            refine A_iload_n Γ dX0_ferry_73 1 rfl ?_
            refine A_iload_n Γ dX0_ferry_74 2 rfl ?_
            refine A_iload Γ dX0_ferry_75 4 rfl ?_
            replace h := b1 h
            obtain ⟨σ14, e13, h⟩ := h
            refine kX0_X0both Γ Ξ hRm (by decide) (by decide) ⟨by decide, rfl, rfl⟩ e13 (Nat.le_of_ble_eq_true rfl) dX0_ferry_77 ?_
            refine A_iconst (v := 1) Γ dX0_ferry_80 (by decide) ?_
            obtain ⟨rfl, rfl⟩ := inj2 h
            exact hret _ _ dX0_ferry_81
          · replace h := it_t c h
            refine A_aload_n Γ dX0_ferry_53 0 rfl ?_
            refine A_iconst (v := 1) Γ dX0_ferry_54 (by decide) ?_
            replace h := b2 h
            obtain ⟨v16, σ17, e15, h⟩ := h
            refine kX0_X0found Γ Ξ hRm (by decide) (by decide) e15 (Nat.le_of_ble_eq_true rfl) dX0_ferry_55 ?_
            obtain ⟨rfl, rfl⟩ := inj2 h
            exact hret _ _ dX0_ferry_58
        · replace h := it_t c h
          refine A_iconst (v := (-1)) Γ dX0_ferry_37 (by decide) ?_
          obtain ⟨rfl, rfl⟩ := inj2 h
          exact hret _ _ dX0_ferry_38
theorem mtX0_ferry (l : Launch) (X : Xw) {σ σ' : St} {a1 : Int32} {a2 : Int32} {a3 : Int32} {a4 : Int32} {r : Int32} (h : c_ferry σ a1 a2 a3 a4 = some (r, σ')) : MetZ 0 l X yX0_ferry cX0_ferry 5 (some .int) 2 42 [.ref (xo X), .int a1, .int a2, .int a3, .int a4] σ (some (.int r)) σ' := MetZ.ofAt (by decide) (Nat.le_of_ble_eq_true rfl) (fun G _ Γ Ξ hR hret => wkX0_ferry Γ Ξ hR h hret)

set_option maxHeartbeats 4000000 in
set_option maxRecDepth 100000 in
theorem wkX0_over {G : Gx} {X : Xw} {σ : St} {a1 : Int32} {a2 : Int32} (Γ : Ok G RX0 cX0_over 5) (Ξ : OkX 0 G X) (hRm : Rm G 1 22) {r : Int32} (h : c_over σ a1 a2 = some r) (hret : ∀ (pc : Nat) (lv : List (Nat × Value)), retIs cX0_over (some .int) (some (.int r)) pc → At G 5 σ lv [.int r] pc) : At G 5 σ [(0, .ref (xo X)), (1, .int a1), (2, .int a2)] [] 0 := by
  rw [c_over] at h
  refine A_aload_n Γ dX0_over_0 0 rfl ?_
  refine g0_14 Γ Ξ dX0_over_1 ?_
  refine A_iload_n Γ dX0_over_4 1 rfl ?_
  replace h := b1 h
  obtain ⟨v1, e2, h⟩ := h
  refine r0_14 Γ Ξ e2 dX0_over_5 ?_
  refine A_istore_n (lv' := [(3, .int v1), (0, .ref (xo X)), (1, .int a1), (2, .int a2)]) Γ dX0_over_6 (by decide) rfl ?_
  refine A_iload_n Γ dX0_over_7 0 rfl ?_
  replace h := b1 h
  obtain ⟨x4, eJ3, h⟩ := h
  have hJJ3 : At G 5 σ [(0, .ref (xo X)), (1, .int a1), (2, .int a2)] [.int x4] 27 := by
    refine A_istore (lv' := [(4, .int x4), (0, .ref (xo X)), (1, .int a1), (2, .int a2)]) Γ dX0_over_27 (by decide) rfl ?_
    refine A_iload_n Γ dX0_over_29 3 rfl ?_
    refine A_iload Γ dX0_over_30 0 rfl ?_
    refine A_iadd Γ dX0_over_32 ?_
    refine A_aload_n Γ dX0_over_33 1 rfl ?_
    refine g0_12 Γ Ξ dX0_over_34 ?_
    refine A_iload_n Γ dX0_over_37 2 rfl ?_
    replace h := b1 h
    obtain ⟨v9, e10, h⟩ := h
    refine r0_12 Γ Ξ e10 dX0_over_38 ?_
    refine A_iadd Γ dX0_over_39 ?_
    obtain rfl := inj1 h
    exact hret _ _ dX0_over_40
  refine A_if_ne (t := 15) Γ dX0_over_8 (by decide) (fun c => ?_) (fun c => ?_)
  · replace eJ3 := it_f c eJ3
    refine A_aload_n Γ dX0_over_15 1 rfl ?_
    refine g0_15 Γ Ξ dX0_over_16 ?_
    refine A_iload_n Γ dX0_over_19 2 rfl ?_
    replace eJ3 := b1 eJ3
    obtain ⟨v5, e6, eJ3⟩ := eJ3
    refine r0_15 Γ Ξ e6 dX0_over_20 ?_
    refine A_iload_n Γ dX0_over_21 3 rfl ?_
    refine A_isub Γ dX0_over_22 ?_
    refine A_iload_n Γ dX0_over_23 0 rfl ?_
    replace eJ3 := b1 eJ3
    obtain ⟨v8, e7, eJ3⟩ := eJ3
    refine kX0_J8floorMod Γ (kpX Ξ) hRm (by decide) (by decide) e7 (Nat.le_of_ble_eq_true rfl) dX0_over_24 ?_
    obtain rfl := inj1 eJ3
    exact A_sub [1, 2, 3] rfl hJJ3
  · replace eJ3 := it_t c eJ3
    refine A_iconst (v := 0) Γ dX0_over_11 (by decide) ?_
    refine A_goto (t := 27) Γ dX0_over_12 (by decide) ?_
    obtain rfl := inj1 eJ3
    exact A_sub [1, 2, 3] rfl hJJ3
theorem mtX0_over (l : Launch) (X : Xw) {σ : St} {a1 : Int32} {a2 : Int32} {r : Int32} (h : c_over σ a1 a2 = some r) : MetZ 0 l X yX0_over cX0_over 5 (some .int) 1 22 [.ref (xo X), .int a1, .int a2] σ (some (.int r)) σ := MetZ.ofAt (by decide) (Nat.le_of_ble_eq_true rfl) (fun G _ Γ Ξ hR hret => wkX0_over Γ Ξ hR h hret)
theorem kX0_X0over {G : Gx} {X : Xw} {cc : ByteArray} {nL pc F LO : Nat} {σ : St} {lv : List (Nat × Value)} {st : List Value} (Γ : Ok G RX0 cc nL) (Ξ : OkX 0 G X) {a1 : Int32} {a2 : Int32} {r : Int32} (hRm : Rm G F LO) (hf : 1 + 1 ≤ F) (hlo : 8 + (5 + 11) + 22 ≤ LO) (h : c_over σ a1 a2 = some r) (hW : (st.map fun v => v.category).sum ≤ 8) (d : decode cc pc = .ok (.invokevirtual 232, 3)) (kk : At G nL σ lv (.int r :: st) (pc + 3)) : At G nL σ lv (.int a2 :: .int a1 :: .ref (xo X) :: st) pc := A_callV Γ Ξ rfl rfl (mtX0_over (gl G) X h) (lw_V q541 q543 qs7 q63 q544) (n := 2) (by decide +kernel) (rm_ok hRm hf hlo) (rm_k hRm) rfl rfl hW d kk
set_option maxHeartbeats 4000000 in
set_option maxRecDepth 100000 in
theorem wkX0_lead {G : Gx} {X : Xw} {σ σ' : St} {a1 : Int32} {a2 : Int32} {a3 : Int32} (Γ : Ok G RX0 cX0_lead 9) (Ξ : OkX 0 G X) (hRm : Rm G 2 46)  (h : c_lead σ a1 a2 a3 = some σ') (hret : ∀ (pc : Nat) (lv : List (Nat × Value)), retIs cX0_lead none (none) pc → At G 9 σ' lv [] pc) : At G 9 σ [(0, .ref (xo X)), (1, .int a1), (2, .int a2), (3, .int a3)] [] 0 := by
  rw [c_lead] at h
  refine A_iconst (v := 0) Γ dX0_lead_0 (by decide) ?_
  refine A_istore (lv' := [(4, .int 0), (0, .ref (xo X)), (1, .int a1), (2, .int a2), (3, .int a3)]) Γ dX0_lead_1 (by decide) rfl ?_
  replace h := b1 h
  obtain ⟨σ4, eLL1, h⟩ := h
  have hXL1 : At G 9 σ4 [(0, .ref (xo X)), (3, .int a3)] [] 43 := by
    refine A_iconst (v := 0) Γ dX0_lead_43 (by decide) ?_
    refine A_istore (lv' := [(4, .int 0), (0, .ref (xo X)), (3, .int a3)]) Γ dX0_lead_44 (by decide) rfl ?_
    replace h := bR1 h
    obtain ⟨qqL11, eLL11, hsL11⟩ := h
    have hXL11 : ∀ (σ14 : St), qqL11 = .inl σ14 → At G 9 σ14 [] [] 266 := by
      intro σ14 e0
      rcases hsL11 with ⟨σ14z, e1, h⟩ | ⟨r1, e1, _⟩
      · cases e0.symm.trans e1
        obtain rfl := inj1 h
        exact hret _ _ dX0_lead_266
      · cases e0.symm.trans e1
    have hRtL11 : ∀ w : St, qqL11 = .inr w → some w = some σ' := by
      intro w e0
      rcases hsL11 with ⟨σ14z, e1, _⟩ | ⟨r1, e1, h9⟩
      · cases e0.symm.trans e1
      · cases e0.symm.trans e1; exact h9
    replace eLL11 := lq2_ex eLL11
    obtain ⟨nL11, eLL11⟩ := eLL11
    have hLL11 : ∀ (nL11 : Nat) (σ12 : St) (x13 : Int32), lpf2 (c_lead_L11 a3) nL11 σ12 x13 = some qqL11 → At G 9 σ12 [(0, .ref (xo X)), (3, .int a3), (4, .int x13)] [] 46 := by
      intro nL11
      induction nL11 with
      | zero => intro σ12 x13 eL11; exact (lpf2_0 eL11).elim
      | succ nL11 ihL11 =>
        intro σ12 x13 eL11
        replace eL11 := lpf2_s eL11
        obtain ⟨qL11, eL11, hqL11⟩ := eL11
        rw [c_lead_L11] at eL11
        refine A_iload Γ dX0_lead_46 2 rfl ?_
        refine A_bipush (v := 8) Γ dX0_lead_48 (by decide) ?_
        refine A_icmp_ge (t := 266) Γ dX0_lead_50 (by decide) (fun c => ?_) (fun c => ?_)
        · replace eL11 := it_t c eL11
          exact A_sub [] rfl (hXL11 _ (lpx2 eL11 hqL11).symm)
        · replace eL11 := it_f c eL11
          refine A_bipush (v := (-9)) Γ dX0_lead_53 (by decide) ?_
          refine A_istore (lv' := [(5, .int (-9)), (0, .ref (xo X)), (3, .int a3), (4, .int x13)]) Γ dX0_lead_55 (by decide) rfl ?_
          refine A_iconst (v := 0) Γ dX0_lead_57 (by decide) ?_
          refine A_istore (lv' := [(6, .int 0), (5, .int (-9)), (0, .ref (xo X)), (3, .int a3), (4, .int x13)]) Γ dX0_lead_58 (by decide) rfl ?_
          replace eL11 := b1 eL11
          obtain ⟨x18, eLL15, eL11⟩ := eL11
          have hXL15 : At G 9 σ12 [(0, .ref (xo X)), (3, .int a3), (4, .int x13), (5, .int x18)] [] 128 := by
            refine A_iload Γ dX0_lead_128 3 rfl ?_
            refine A_bipush (v := (-9)) Γ dX0_lead_130 (by decide) ?_
            refine A_icmp_ne (t := 136) Γ dX0_lead_132 (by decide) (fun c => ?_) (fun c => ?_)
            · replace eL11 := it_f c eL11
              refine A_aload_n Γ dX0_lead_136 0 rfl ?_
              refine g0_17 Γ Ξ dX0_lead_137 ?_
              refine A_iload Γ dX0_lead_140 3 rfl ?_
              refine A_iconst (v := 1) Γ dX0_lead_142 (by decide) ?_
              replace eL11 := b1 eL11
              obtain ⟨σ29, e30, eL11⟩ := eL11
              refine w0_17 Γ Ξ e30 dX0_lead_143 ?_
              refine A_iconst (v := 0) Γ dX0_lead_144 (by decide) ?_
              refine A_istore (lv' := [(6, .int 0), (0, .ref (xo X)), (3, .int a3), (4, .int x13), (5, .int x18)]) Γ dX0_lead_145 (by decide) rfl ?_
              replace eL11 := b1 eL11
              obtain ⟨σ34, eLL31, eL11⟩ := eL11
              have hXL31 : At G 9 σ34 [(0, .ref (xo X)), (3, .int a3), (4, .int x13)] [] 260 := by
                refine A_iinc (v := x13 + 1) (lv' := [(4, .int (x13 + 1)), (0, .ref (xo X)), (3, .int a3)]) Γ dX0_lead_260 2 rfl rfl (by decide) rfl ?_
                refine A_goto (t := 46) Γ dX0_lead_263 (by decide) ?_
                exact A_sub [1, 2, 0] rfl (ihL11 _ _ (lpc2 eL11 hqL11))
              replace eLL31 := lq2_ex eLL31
              obtain ⟨nL31, eLL31⟩ := eLL31
              have hLL31 : ∀ (nL31 : Nat) (σ32 : St) (x33 : Int32), lpf2 (c_lead_L31 a3 x18) nL31 σ32 x33 = some σ34 → At G 9 σ32 [(0, .ref (xo X)), (3, .int a3), (4, .int x13), (5, .int x18), (6, .int x33)] [] 147 := by
                intro nL31
                induction nL31 with
                | zero => intro σ32 x33 eL31; exact (lpf2_0 eL31).elim
                | succ nL31 ihL31 =>
                  intro σ32 x33 eL31
                  replace eL31 := lpf2_s eL31
                  obtain ⟨qL31, eL31, hqL31⟩ := eL31
                  rw [c_lead_L31] at eL31
                  refine A_iload Γ dX0_lead_147 4 rfl ?_
                  refine A_bipush (v := 8) Γ dX0_lead_149 (by decide) ?_
                  refine A_icmp_ge (t := 260) Γ dX0_lead_151 (by decide) (fun c => ?_) (fun c => ?_)
                  · replace eL31 := it_t c eL31
                    obtain rfl := pr1 (lpx2 eL31 hqL31)
                    exact A_sub [0, 1, 2] rfl hXL31
                  · replace eL31 := it_f c eL31
                    refine A_bipush (v := 8) Γ dX0_lead_154 (by decide) ?_
                    refine A_iload Γ dX0_lead_156 3 rfl ?_
                    refine A_imul Γ dX0_lead_158 ?_
                    refine A_iload Γ dX0_lead_159 4 rfl ?_
                    refine A_iadd Γ dX0_lead_161 ?_
                    refine A_istore (lv' := [(7, .int ((8 * x18) + x33)), (0, .ref (xo X)), (3, .int a3), (4, .int x13), (5, .int x18), (6, .int x33)]) Γ dX0_lead_162 (by decide) rfl ?_
                    refine A_aload_n Γ dX0_lead_164 1 rfl ?_
                    refine g0_12 Γ Ξ dX0_lead_165 ?_
                    refine A_iload Γ dX0_lead_168 0 rfl ?_
                    replace eL31 := b1 eL31
                    obtain ⟨v35, e36, eL31⟩ := eL31
                    refine r0_12 Γ Ξ e36 dX0_lead_170 ?_
                    replace eL31 := b1 eL31
                    obtain ⟨σ38, eJ37, eL31⟩ := eL31
                    have hJJ37 : At G 9 σ38 [(0, .ref (xo X)), (3, .int a3), (4, .int x13), (5, .int x18), (6, .int x33)] [] 254 := by
                      refine A_iinc (v := x33 + 1) (lv' := [(6, .int (x33 + 1)), (0, .ref (xo X)), (3, .int a3), (4, .int x13), (5, .int x18)]) Γ dX0_lead_254 4 rfl rfl (by decide) rfl ?_
                      refine A_goto (t := 147) Γ dX0_lead_257 (by decide) ?_
                      exact A_sub [1, 2, 3, 4, 0] rfl (ihL31 _ _ (lpc2 eL31 hqL31))
                    refine A_if_le (t := 254) Γ dX0_lead_171 (by decide) (fun c => ?_) (fun c => ?_)
                    · replace eJ37 := it_t c eJ37
                      obtain rfl := inj1 eJ37
                      exact A_sub [1, 2, 3, 4, 5] rfl hJJ37
                    · replace eJ37 := it_f c eJ37
                      refine A_iload_n Γ dX0_lead_174 2 rfl ?_
                      replace eJ37 := b1 eJ37
                      obtain ⟨x40, eJ39, eJ37⟩ := eJ37
                      have hJJ39 : At G 9 σ32 [(0, .ref (xo X)), (3, .int a3), (4, .int x13), (5, .int x18), (6, .int x33)] [.int x40] 209 := by
                        refine A_istore (lv' := [(8, .int x40), (0, .ref (xo X)), (3, .int a3), (4, .int x13), (5, .int x18), (6, .int x33)]) Γ dX0_lead_209 (by decide) rfl ?_
                        refine A_aload_n Γ dX0_lead_211 1 rfl ?_
                        refine g0_16 Γ Ξ dX0_lead_212 ?_
                        refine A_iload Γ dX0_lead_215 5 rfl ?_
                        refine A_aload_n Γ dX0_lead_217 1 rfl ?_
                        refine g0_16 Γ Ξ dX0_lead_218 ?_
                        refine A_iload Γ dX0_lead_221 5 rfl ?_
                        replace eJ37 := b1 eJ37
                        obtain ⟨v49, e50, eJ37⟩ := eJ37
                        refine r0_16 Γ Ξ e50 dX0_lead_223 ?_
                        refine A_bipush (v := (-9)) Γ dX0_lead_224 (by decide) ?_
                        replace eJ37 := b1 eJ37
                        obtain ⟨x52, eJ51, eJ37⟩ := eJ37
                        have hJJ51 : At G 9 σ32 [(0, .ref (xo X)), (3, .int a3), (4, .int x13), (5, .int x18), (6, .int x33)] [.int x52, .int x33, .ref (xad X 16)] 253 := by
                          replace eJ37 := b1 eJ37
                          obtain ⟨σ57, e58, eJ37⟩ := eJ37
                          refine w0_16 Γ Ξ e58 dX0_lead_253 ?_
                          obtain rfl := inj1 eJ37
                          exact A_sub [0, 1, 2, 3, 4] rfl hJJ37
                        refine A_icmp_eq (t := 241) Γ dX0_lead_226 (by decide) (fun c => ?_) (fun c => ?_)
                        · replace eJ51 := it_t c eJ51
                          refine A_iload Γ dX0_lead_241 0 rfl ?_
                          refine A_goto (t := 253) Γ dX0_lead_243 (by decide) ?_
                          obtain rfl := inj1 eJ51
                          exact A_sub [1, 2, 3, 4, 5] rfl hJJ51
                        · replace eJ51 := it_f c eJ51
                          refine A_iload Γ dX0_lead_229 0 rfl ?_
                          refine A_aload_n Γ dX0_lead_231 1 rfl ?_
                          refine g0_16 Γ Ξ dX0_lead_232 ?_
                          refine A_iload Γ dX0_lead_235 5 rfl ?_
                          replace eJ51 := b1 eJ51
                          obtain ⟨v53, e54, eJ51⟩ := eJ51
                          refine r0_16 Γ Ξ e54 dX0_lead_237 ?_
                          refine A_icmp_ge (t := 246) Γ dX0_lead_238 (by decide) (fun c => ?_) (fun c => ?_)
                          · replace eJ51 := it_t c eJ51
                            refine A_aload_n Γ dX0_lead_246 1 rfl ?_
                            refine g0_16 Γ Ξ dX0_lead_247 ?_
                            refine A_iload Γ dX0_lead_250 5 rfl ?_
                            replace eJ51 := b1 eJ51
                            obtain ⟨v55, e56, eJ51⟩ := eJ51
                            refine r0_16 Γ Ξ e56 dX0_lead_252 ?_
                            obtain rfl := inj1 eJ51
                            exact A_sub [1, 2, 3, 4, 5] rfl hJJ51
                          · replace eJ51 := it_f c eJ51
                            refine A_iload Γ dX0_lead_241 0 rfl ?_
                            refine A_goto (t := 253) Γ dX0_lead_243 (by decide) ?_
                            obtain rfl := inj1 eJ51
                            exact A_sub [1, 2, 3, 4, 5] rfl hJJ51
                      refine A_if_eq (t := 196) Γ dX0_lead_175 (by decide) (fun c => ?_) (fun c => ?_)
                      · replace eJ39 := it_t c eJ39
                        refine A_aload_n Γ dX0_lead_196 1 rfl ?_
                        refine A_iload Γ dX0_lead_197 0 rfl ?_
                        refine A_aload_n Γ dX0_lead_199 1 rfl ?_
                        refine g0_16 Γ Ξ dX0_lead_200 ?_
                        refine A_iload Γ dX0_lead_203 4 rfl ?_
                        replace eJ39 := b1 eJ39
                        obtain ⟨v41, e42, eJ39⟩ := eJ39
                        refine r0_16 Γ Ξ e42 dX0_lead_205 ?_
                        replace eJ39 := b1 eJ39
                        obtain ⟨v44, e43, eJ39⟩ := eJ39
                        refine kX0_X0over Γ Ξ hRm (by decide) (by decide) e43 (Nat.le_of_ble_eq_true rfl) dX0_lead_206 ?_
                        obtain rfl := inj1 eJ39
                        exact A_sub [1, 2, 3, 4, 5] rfl hJJ39
                      · replace eJ39 := it_f c eJ39
                        refine A_aload_n Γ dX0_lead_178 1 rfl ?_
                        refine g0_16 Γ Ξ dX0_lead_179 ?_
                        refine A_iload Γ dX0_lead_182 4 rfl ?_
                        replace eJ39 := b1 eJ39
                        obtain ⟨v45, e46, eJ39⟩ := eJ39
                        refine r0_16 Γ Ξ e46 dX0_lead_184 ?_
                        refine A_aload_n Γ dX0_lead_185 1 rfl ?_
                        refine g0_13 Γ Ξ dX0_lead_186 ?_
                        refine A_iload Γ dX0_lead_189 0 rfl ?_
                        replace eJ39 := b1 eJ39
                        obtain ⟨v47, e48, eJ39⟩ := eJ39
                        refine r0_13 Γ Ξ e48 dX0_lead_191 ?_
                        refine A_iadd Γ dX0_lead_192 ?_
                        refine A_goto (t := 209) Γ dX0_lead_193 (by decide) ?_
                        obtain rfl := inj1 eJ39
                        exact A_sub [1, 2, 3, 4, 5] rfl hJJ39
              exact A_sub [1, 2, 3, 4, 0] rfl (hLL31 _ _ _ eLL31)
            · replace eL11 := it_t c eL11
              have rL11 := hRtL11 _ (lpx2 eL11 hqL11).symm
              obtain rfl := inj1 rL11
              exact hret _ _ dX0_lead_135
          replace eLL15 := lq2_ex eLL15
          obtain ⟨nL15, eLL15⟩ := eLL15
          have hLL15 : ∀ (nL15 : Nat) (x16 : Int32) (x17 : Int32), lpf2 (c_lead_L15 σ12) nL15 x16 x17 = some x18 → At G 9 σ12 [(0, .ref (xo X)), (3, .int a3), (4, .int x13), (5, .int x16), (6, .int x17)] [] 60 := by
            intro nL15
            induction nL15 with
            | zero => intro x16 x17 eL15; exact (lpf2_0 eL15).elim
            | succ nL15 ihL15 =>
              intro x16 x17 eL15
              replace eL15 := lpf2_s eL15
              obtain ⟨qL15, eL15, hqL15⟩ := eL15
              rw [c_lead_L15] at eL15
              refine A_iload Γ dX0_lead_60 4 rfl ?_
              refine A_bipush (v := 8) Γ dX0_lead_62 (by decide) ?_
              refine A_icmp_ge (t := 128) Γ dX0_lead_64 (by decide) (fun c => ?_) (fun c => ?_)
              · replace eL15 := it_t c eL15
                obtain rfl := pr1 (lpx2 eL15 hqL15)
                exact A_sub [0, 1, 2, 3] rfl hXL15
              · replace eL15 := it_f c eL15
                refine A_aload_n Γ dX0_lead_67 0 rfl ?_
                refine g0_17 Γ Ξ dX0_lead_68 ?_
                refine A_iload Γ dX0_lead_71 4 rfl ?_
                replace eL15 := b1 eL15
                obtain ⟨v19, e20, eL15⟩ := eL15
                refine r0_17 Γ Ξ e20 dX0_lead_73 ?_
                replace eL15 := b1 eL15
                obtain ⟨x22, eJ21, eL15⟩ := eL15
                have hJJ21 : At G 9 σ12 [(0, .ref (xo X)), (3, .int a3), (4, .int x13), (6, .int x17)] [.int x22] 120 := by
                  refine A_istore (lv' := [(5, .int x22), (0, .ref (xo X)), (3, .int a3), (4, .int x13), (6, .int x17)]) Γ dX0_lead_120 (by decide) rfl ?_
                  refine A_iinc (v := x17 + 1) (lv' := [(6, .int (x17 + 1)), (5, .int x22), (0, .ref (xo X)), (3, .int a3), (4, .int x13)]) Γ dX0_lead_122 4 rfl rfl (by decide) rfl ?_
                  refine A_goto (t := 60) Γ dX0_lead_125 (by decide) ?_
                  exact A_sub [2, 3, 4, 1, 0] rfl (ihL15 _ _ (lpc2 eL15 hqL15))
                refine A_if_ne (t := 118) Γ dX0_lead_74 (by decide) (fun c => ?_) (fun c => ?_)
                · replace eJ21 := it_f c eJ21
                  refine A_iload Γ dX0_lead_118 3 rfl ?_
                  obtain rfl := inj1 eJ21
                  exact A_sub [0, 1, 2, 4] rfl hJJ21
                · replace eJ21 := it_t c eJ21
                  refine A_aload_n Γ dX0_lead_77 0 rfl ?_
                  refine g0_16 Γ Ξ dX0_lead_78 ?_
                  refine A_iload Γ dX0_lead_81 4 rfl ?_
                  replace eJ21 := b1 eJ21
                  obtain ⟨v23, e24, eJ21⟩ := eJ21
                  refine r0_16 Γ Ξ e24 dX0_lead_83 ?_
                  refine A_bipush (v := (-9)) Γ dX0_lead_84 (by decide) ?_
                  refine A_icmp_eq (t := 118) Γ dX0_lead_86 (by decide) (fun c => ?_) (fun c => ?_)
                  · replace eJ21 := it_t c eJ21
                    refine A_iload Γ dX0_lead_118 3 rfl ?_
                    obtain rfl := inj1 eJ21
                    exact A_sub [0, 1, 2, 4] rfl hJJ21
                  · replace eJ21 := it_f c eJ21
                    refine A_iload Γ dX0_lead_89 3 rfl ?_
                    refine A_bipush (v := (-9)) Γ dX0_lead_91 (by decide) ?_
                    refine A_icmp_eq (t := 113) Γ dX0_lead_93 (by decide) (fun c => ?_) (fun c => ?_)
                    · replace eJ21 := it_t c eJ21
                      refine A_iload Γ dX0_lead_113 4 rfl ?_
                      refine A_goto (t := 120) Γ dX0_lead_115 (by decide) ?_
                      obtain rfl := inj1 eJ21
                      exact A_sub [0, 1, 2, 4] rfl hJJ21
                    · replace eJ21 := it_f c eJ21
                      refine A_aload_n Γ dX0_lead_96 0 rfl ?_
                      refine g0_16 Γ Ξ dX0_lead_97 ?_
                      refine A_iload Γ dX0_lead_100 4 rfl ?_
                      replace eJ21 := b1 eJ21
                      obtain ⟨v25, e26, eJ21⟩ := eJ21
                      refine r0_16 Γ Ξ e26 dX0_lead_102 ?_
                      refine A_aload_n Γ dX0_lead_103 0 rfl ?_
                      refine g0_16 Γ Ξ dX0_lead_104 ?_
                      refine A_iload Γ dX0_lead_107 3 rfl ?_
                      replace eJ21 := b1 eJ21
                      obtain ⟨v27, e28, eJ21⟩ := eJ21
                      refine r0_16 Γ Ξ e28 dX0_lead_109 ?_
                      refine A_icmp_ge (t := 118) Γ dX0_lead_110 (by decide) (fun c => ?_) (fun c => ?_)
                      · replace eJ21 := it_t c eJ21
                        refine A_iload Γ dX0_lead_118 3 rfl ?_
                        obtain rfl := inj1 eJ21
                        exact A_sub [0, 1, 2, 4] rfl hJJ21
                      · replace eJ21 := it_f c eJ21
                        refine A_iload Γ dX0_lead_113 4 rfl ?_
                        refine A_goto (t := 120) Γ dX0_lead_115 (by decide) ?_
                        obtain rfl := inj1 eJ21
                        exact A_sub [0, 1, 2, 4] rfl hJJ21
          exact A_sub [2, 3, 4, 1, 0] rfl (hLL15 _ _ _ eLL15)
    exact A_sub [1, 2, 0] rfl (hLL11 _ _ _ eLL11)
  replace eLL1 := lq2_ex eLL1
  obtain ⟨nL1, eLL1⟩ := eLL1
  have hLL1 : ∀ (nL1 : Nat) (σ2 : St) (x3 : Int32), lpf2 (c_lead_L1 a1 a2) nL1 σ2 x3 = some σ4 → At G 9 σ2 [(0, .ref (xo X)), (1, .int a1), (2, .int a2), (3, .int a3), (4, .int x3)] [] 3 := by
    intro nL1
    induction nL1 with
    | zero => intro σ2 x3 eL1; exact (lpf2_0 eL1).elim
    | succ nL1 ihL1 =>
      intro σ2 x3 eL1
      replace eL1 := lpf2_s eL1
      obtain ⟨qL1, eL1, hqL1⟩ := eL1
      rw [c_lead_L1] at eL1
      refine A_iload Γ dX0_lead_3 4 rfl ?_
      refine A_bipush (v := 8) Γ dX0_lead_5 (by decide) ?_
      refine A_icmp_ge (t := 43) Γ dX0_lead_7 (by decide) (fun c => ?_) (fun c => ?_)
      · replace eL1 := it_t c eL1
        obtain rfl := pr1 (lpx2 eL1 hqL1)
        exact A_sub [0, 3] rfl hXL1
      · replace eL1 := it_f c eL1
        refine A_aload_n Γ dX0_lead_10 0 rfl ?_
        refine g0_16 Γ Ξ dX0_lead_11 ?_
        refine A_iload Γ dX0_lead_14 4 rfl ?_
        refine A_iload Γ dX0_lead_16 4 rfl ?_
        refine A_iload_n Γ dX0_lead_18 1 rfl ?_
        replace eL1 := b1 eL1
        obtain ⟨x6, eJ5, eL1⟩ := eL1
        have hJJ5 : At G 9 σ2 [(0, .ref (xo X)), (1, .int a1), (2, .int a2), (3, .int a3), (4, .int x3)] [.int x6, .int x3, .ref (xad X 16)] 28 := by
          replace eL1 := b1 eL1
          obtain ⟨σ7, e8, eL1⟩ := eL1
          refine w0_16 Γ Ξ e8 dX0_lead_28 ?_
          refine A_aload_n Γ dX0_lead_29 0 rfl ?_
          refine g0_17 Γ Ξ dX0_lead_30 ?_
          refine A_iload Γ dX0_lead_33 4 rfl ?_
          refine A_iconst (v := 0) Γ dX0_lead_35 (by decide) ?_
          replace eL1 := b1 eL1
          obtain ⟨σ9, e10, eL1⟩ := eL1
          refine w0_17 Γ Ξ e10 dX0_lead_36 ?_
          refine A_iinc (v := x3 + 1) (lv' := [(4, .int (x3 + 1)), (0, .ref (xo X)), (1, .int a1), (2, .int a2), (3, .int a3)]) Γ dX0_lead_37 4 rfl rfl (by decide) rfl ?_
          refine A_goto (t := 3) Γ dX0_lead_40 (by decide) ?_
          exact A_sub [1, 2, 3, 4, 0] rfl (ihL1 _ _ (lpc2 eL1 hqL1))
        refine A_icmp_ne (t := 26) Γ dX0_lead_19 (by decide) (fun c => ?_) (fun c => ?_)
        · replace eJ5 := it_f c eJ5
          refine A_bipush (v := (-9)) Γ dX0_lead_26 (by decide) ?_
          obtain rfl := inj1 eJ5
          exact A_sub [0, 1, 2, 3, 4] rfl hJJ5
        · replace eJ5 := it_t c eJ5
          refine A_iload_n Γ dX0_lead_22 2 rfl ?_
          refine A_goto (t := 28) Γ dX0_lead_23 (by decide) ?_
          obtain rfl := inj1 eJ5
          exact A_sub [0, 1, 2, 3, 4] rfl hJJ5
  exact A_sub [1, 2, 3, 4, 0] rfl (hLL1 _ _ _ eLL1)
theorem mtX0_lead (l : Launch) (X : Xw) {σ σ' : St} {a1 : Int32} {a2 : Int32} {a3 : Int32}  (h : c_lead σ a1 a2 a3 = some σ') : MetZ 0 l X yX0_lead cX0_lead 9 none 2 46 [.ref (xo X), .int a1, .int a2, .int a3] σ (none) σ' := MetZ.ofAt (by decide) (Nat.le_of_ble_eq_true rfl) (fun G _ Γ Ξ hR hret => wkX0_lead Γ Ξ hR h hret)
theorem kX0_X0lead {G : Gx} {X : Xw} {cc : ByteArray} {nL pc F LO : Nat} {σ σ' : St} {lv : List (Nat × Value)} {st : List Value} (Γ : Ok G RX0 cc nL) (Ξ : OkX 0 G X) {a1 : Int32} {a2 : Int32} {a3 : Int32}  (hRm : Rm G F LO) (hf : 2 + 1 ≤ F) (hlo : 8 + (9 + 11) + 46 ≤ LO) (h : c_lead σ a1 a2 a3 = some σ') (hW : (st.map fun v => v.category).sum ≤ 8) (d : decode cc pc = .ok (.invokevirtual 234, 3)) (kk : At G nL σ' lv (st) (pc + 3)) : At G nL σ lv (.int a3 :: .int a2 :: .int a1 :: .ref (xo X) :: st) pc := A_callV Γ Ξ rfl rfl (mtX0_lead (gl G) X h) (lw_V q537 q539 qs6 q63 q540) (n := 3) (by decide +kernel) (rm_ok hRm hf hlo) (rm_k hRm) rfl rfl hW d kk
set_option maxHeartbeats 4000000 in
set_option maxRecDepth 100000 in
theorem wkX0_comesTo {G : Gx} {X : Xw} {σ σ' : St} {a1 : Int32} {a2 : Int32} {a3 : Int32} (Γ : Ok G RX0 cX0_comesTo 4) (Ξ : OkX 0 G X) (hRm : Rm G 3 74) {r : Int32} (h : c_comesTo σ a1 a2 a3 = some (r, σ')) (hret : ∀ (pc : Nat) (lv : List (Nat × Value)), retIs cX0_comesTo (some .int) (some (.int r)) pc → At G 4 σ' lv [.int r] pc) : At G 4 σ [(0, .ref (xo X)), (1, .int a1), (2, .int a2), (3, .int a3)] [] 0 := by
  rw [c_comesTo] at h
  refine A_aload_n Γ dX0_comesTo_0 0 rfl ?_
  refine A_iload_n Γ dX0_comesTo_1 1 rfl ?_
  refine A_iload_n Γ dX0_comesTo_2 2 rfl ?_
  refine A_iconst (v := 0) Γ dX0_comesTo_3 (by decide) ?_
  replace h := b1 h
  obtain ⟨σ2, e1, h⟩ := h
  refine kX0_X0lead Γ Ξ hRm (by decide) (by decide) e1 (Nat.le_of_ble_eq_true rfl) dX0_comesTo_4 ?_
  refine A_aload_n Γ dX0_comesTo_7 0 rfl ?_
  refine g0_16 Γ Ξ dX0_comesTo_8 ?_
  refine A_iload_n Γ dX0_comesTo_11 3 rfl ?_
  replace h := b1 h
  obtain ⟨v3, e4, h⟩ := h
  refine r0_16 Γ Ξ e4 dX0_comesTo_12 ?_
  obtain ⟨rfl, rfl⟩ := inj2 h
  exact hret _ _ dX0_comesTo_13
theorem mtX0_comesTo (l : Launch) (X : Xw) {σ σ' : St} {a1 : Int32} {a2 : Int32} {a3 : Int32} {r : Int32} (h : c_comesTo σ a1 a2 a3 = some (r, σ')) : MetZ 0 l X yX0_comesTo cX0_comesTo 4 (some .int) 3 74 [.ref (xo X), .int a1, .int a2, .int a3] σ (some (.int r)) σ' := MetZ.ofAt (by decide) (Nat.le_of_ble_eq_true rfl) (fun G _ Γ Ξ hR hret => wkX0_comesTo Γ Ξ hR h hret)
theorem kX0_X0comesTo {G : Gx} {X : Xw} {cc : ByteArray} {nL pc F LO : Nat} {σ σ' : St} {lv : List (Nat × Value)} {st : List Value} (Γ : Ok G RX0 cc nL) (Ξ : OkX 0 G X) {a1 : Int32} {a2 : Int32} {a3 : Int32} {r : Int32} (hRm : Rm G F LO) (hf : 3 + 1 ≤ F) (hlo : 8 + (4 + 11) + 74 ≤ LO) (h : c_comesTo σ a1 a2 a3 = some (r, σ')) (hW : (st.map fun v => v.category).sum ≤ 8) (d : decode cc pc = .ok (.invokevirtual 241, 3)) (kk : At G nL σ' lv (.int r :: st) (pc + 3)) : At G nL σ lv (.int a3 :: .int a2 :: .int a1 :: .ref (xo X) :: st) pc := A_callV Γ Ξ rfl rfl (mtX0_comesTo (gl G) X h) (lw_V q533 q535 qs5 q63 q536) (n := 3) (by decide +kernel) (rm_ok hRm hf hlo) (rm_k hRm) rfl rfl hW d kk
set_option maxHeartbeats 4000000 in
set_option maxRecDepth 100000 in
theorem wkX0_comes {G : Gx} {X : Xw} {σ σ' : St} {a1 : Int32} {a2 : Int32} {a3 : Int32} (Γ : Ok G RX0 cX0_comes 5) (Ξ : OkX 0 G X) (hRm : Rm G 4 97) {r : Int32} (h : c_comes σ a1 a2 a3 = some (r, σ')) (hret : ∀ (pc : Nat) (lv : List (Nat × Value)), retIs cX0_comes (some .int) (some (.int r)) pc → At G 5 σ' lv [.int r] pc) : At G 5 σ [(0, .ref (xo X)), (1, .int a1), (2, .int a2), (3, .int a3)] [] 0 := by
  rw [c_comes] at h
  refine A_iload_n Γ dX0_comes_0 1 rfl ?_
  replace h := b1 h
  obtain ⟨v2, e1, h⟩ := h
  refine kX0_X0isYard Γ (kpX Ξ) hRm (by decide) (by decide) e1 (Nat.le_of_ble_eq_true rfl) dX0_comes_1 ?_
  refine A_if_eq (t := 21) Γ dX0_comes_4 (by decide) (fun c => ?_) (fun c => ?_)
  · replace h := it_t c h
    refine A_iconst (v := (-1)) Γ dX0_comes_21 (by decide) ?_
    obtain ⟨rfl, rfl⟩ := inj2 h
    exact hret _ _ dX0_comes_22
  · replace h := it_f c h
    refine A_iload_n Γ dX0_comes_7 2 rfl ?_
    replace h := b1 h
    obtain ⟨v4, e3, h⟩ := h
    refine kX0_X0isMinute Γ (kpX Ξ) hRm (by decide) (by decide) e3 (Nat.le_of_ble_eq_true rfl) dX0_comes_8 ?_
    refine A_if_eq (t := 21) Γ dX0_comes_11 (by decide) (fun c => ?_) (fun c => ?_)
    · replace h := it_t c h
      refine A_iconst (v := (-1)) Γ dX0_comes_21 (by decide) ?_
      obtain ⟨rfl, rfl⟩ := inj2 h
      exact hret _ _ dX0_comes_22
    · replace h := it_f c h
      refine A_iload_n Γ dX0_comes_14 3 rfl ?_
      replace h := b1 h
      obtain ⟨v6, e5, h⟩ := h
      refine kX0_X0isYard Γ (kpX Ξ) hRm (by decide) (by decide) e5 (Nat.le_of_ble_eq_true rfl) dX0_comes_15 ?_
      refine A_if_ne (t := 23) Γ dX0_comes_18 (by decide) (fun c => ?_) (fun c => ?_)
      · replace h := it_f c h
        refine A_aload_n Γ dX0_comes_23 0 rfl ?_
        refine A_iload_n Γ dX0_comes_24 1 rfl ?_
        refine A_iload_n Γ dX0_comes_25 2 rfl ?_
        refine A_iload_n Γ dX0_comes_26 3 rfl ?_
        replace h := b2 h
        obtain ⟨v8, σ9, e7, h⟩ := h
        refine kX0_X0comesTo Γ Ξ hRm (by decide) (by decide) e7 (Nat.le_of_ble_eq_true rfl) dX0_comes_27 ?_
        refine A_istore (lv' := [(4, .int v8), (0, .ref (xo X)), (1, .int a1), (2, .int a2), (3, .int a3)]) Γ dX0_comes_30 (by decide) rfl ?_
        refine A_iload Γ dX0_comes_32 0 rfl ?_
        refine A_bipush (v := (-9)) Γ dX0_comes_34 (by decide) ?_
        replace h := b2 h
        obtain ⟨σ11, x12, eJ10, h⟩ := h
        have hJJ10 : At G 5 σ11 [] [.int x12] 49 := by
          obtain ⟨rfl, rfl⟩ := inj2 h
          exact hret _ _ dX0_comes_49
        refine A_icmp_ne (t := 47) Γ dX0_comes_36 (by decide) (fun c => ?_) (fun c => ?_)
        · replace eJ10 := it_f c eJ10
          refine A_iload Γ dX0_comes_47 0 rfl ?_
          obtain ⟨rfl, rfl⟩ := inj2 eJ10
          exact A_sub [] rfl hJJ10
        · replace eJ10 := it_t c eJ10
          refine A_aload_n Γ dX0_comes_39 1 rfl ?_
          refine A_iconst (v := 1) Γ dX0_comes_40 (by decide) ?_
          replace eJ10 := b2 eJ10
          obtain ⟨v14, σ15, e13, eJ10⟩ := eJ10
          refine kX0_X0found Γ Ξ hRm (by decide) (by decide) e13 (Nat.le_of_ble_eq_true rfl) dX0_comes_41 ?_
          refine A_goto (t := 49) Γ dX0_comes_44 (by decide) ?_
          obtain ⟨rfl, rfl⟩ := inj2 eJ10
          exact A_sub [] rfl hJJ10
      · replace h := it_t c h
        refine A_iconst (v := (-1)) Γ dX0_comes_21 (by decide) ?_
        obtain ⟨rfl, rfl⟩ := inj2 h
        exact hret _ _ dX0_comes_22
theorem mtX0_comes (l : Launch) (X : Xw) {σ σ' : St} {a1 : Int32} {a2 : Int32} {a3 : Int32} {r : Int32} (h : c_comes σ a1 a2 a3 = some (r, σ')) : MetZ 0 l X yX0_comes cX0_comes 5 (some .int) 4 97 [.ref (xo X), .int a1, .int a2, .int a3] σ (some (.int r)) σ' := MetZ.ofAt (by decide) (Nat.le_of_ble_eq_true rfl) (fun G _ Γ Ξ hR hret => wkX0_comes Γ Ξ hR h hret)

set_option maxHeartbeats 4000000 in
set_option maxRecDepth 100000 in
theorem wkX0_toll {G : Gx} {X : Xw} {σ σ' : St} {a1 : Int32} {a2 : Int32} (Γ : Ok G RX0 cX0_toll 3) (Ξ : OkX 0 G X) (hRm : Rm G 3 74) {r : Int32} (h : c_toll σ a1 a2 = some (r, σ')) (hret : ∀ (pc : Nat) (lv : List (Nat × Value)), retIs cX0_toll (some .int) (some (.int r)) pc → At G 3 σ' lv [.int r] pc) : At G 3 σ [(0, .ref (xo X)), (1, .int a1), (2, .int a2)] [] 0 := by
  rw [c_toll] at h
  refine A_iload_n Γ dX0_toll_0 1 rfl ?_
  replace h := b1 h
  obtain ⟨v2, e1, h⟩ := h
  refine kX0_X0isYard Γ (kpX Ξ) hRm (by decide) (by decide) e1 (Nat.le_of_ble_eq_true rfl) dX0_toll_1 ?_
  refine A_if_eq (t := 14) Γ dX0_toll_4 (by decide) (fun c => ?_) (fun c => ?_)
  · replace h := it_t c h
    refine A_iconst (v := (-1)) Γ dX0_toll_14 (by decide) ?_
    obtain ⟨rfl, rfl⟩ := inj2 h
    exact hret _ _ dX0_toll_15
  · replace h := it_f c h
    refine A_iload_n Γ dX0_toll_7 2 rfl ?_
    replace h := b1 h
    obtain ⟨v4, e3, h⟩ := h
    refine kX0_X0isYard Γ (kpX Ξ) hRm (by decide) (by decide) e3 (Nat.le_of_ble_eq_true rfl) dX0_toll_8 ?_
    refine A_if_ne (t := 16) Γ dX0_toll_11 (by decide) (fun c => ?_) (fun c => ?_)
    · replace h := it_f c h
      refine A_aload_n Γ dX0_toll_16 0 rfl ?_
      refine A_iload_n Γ dX0_toll_17 1 rfl ?_
      refine A_iconst (v := 0) Γ dX0_toll_18 (by decide) ?_
      refine A_iconst (v := 1) Γ dX0_toll_19 (by decide) ?_
      replace h := b1 h
      obtain ⟨σ6, e5, h⟩ := h
      refine kX0_X0lead Γ Ξ hRm (by decide) (by decide) e5 (Nat.le_of_ble_eq_true rfl) dX0_toll_20 ?_
      refine A_aload_n Γ dX0_toll_23 0 rfl ?_
      refine g0_16 Γ Ξ dX0_toll_24 ?_
      refine A_iload_n Γ dX0_toll_27 2 rfl ?_
      replace h := b1 h
      obtain ⟨v7, e8, h⟩ := h
      refine r0_16 Γ Ξ e8 dX0_toll_28 ?_
      refine A_bipush (v := (-9)) Γ dX0_toll_29 (by decide) ?_
      replace h := b2 h
      obtain ⟨σ10, x11, eJ9, h⟩ := h
      have hJJ9 : At G 3 σ10 [] [.int x11] 48 := by
        obtain ⟨rfl, rfl⟩ := inj2 h
        exact hret _ _ dX0_toll_48
      refine A_icmp_ne (t := 42) Γ dX0_toll_31 (by decide) (fun c => ?_) (fun c => ?_)
      · replace eJ9 := it_f c eJ9
        refine A_aload_n Γ dX0_toll_42 0 rfl ?_
        refine g0_16 Γ Ξ dX0_toll_43 ?_
        refine A_iload_n Γ dX0_toll_46 2 rfl ?_
        replace eJ9 := b1 eJ9
        obtain ⟨v12, e13, eJ9⟩ := eJ9
        refine r0_16 Γ Ξ e13 dX0_toll_47 ?_
        obtain ⟨rfl, rfl⟩ := inj2 eJ9
        exact A_sub [] rfl hJJ9
      · replace eJ9 := it_t c eJ9
        refine A_aload_n Γ dX0_toll_34 0 rfl ?_
        refine A_iconst (v := 1) Γ dX0_toll_35 (by decide) ?_
        replace eJ9 := b2 eJ9
        obtain ⟨v15, σ16, e14, eJ9⟩ := eJ9
        refine kX0_X0found Γ Ξ hRm (by decide) (by decide) e14 (Nat.le_of_ble_eq_true rfl) dX0_toll_36 ?_
        refine A_goto (t := 48) Γ dX0_toll_39 (by decide) ?_
        obtain ⟨rfl, rfl⟩ := inj2 eJ9
        exact A_sub [] rfl hJJ9
    · replace h := it_t c h
      refine A_iconst (v := (-1)) Γ dX0_toll_14 (by decide) ?_
      obtain ⟨rfl, rfl⟩ := inj2 h
      exact hret _ _ dX0_toll_15
theorem mtX0_toll (l : Launch) (X : Xw) {σ σ' : St} {a1 : Int32} {a2 : Int32} {r : Int32} (h : c_toll σ a1 a2 = some (r, σ')) : MetZ 0 l X yX0_toll cX0_toll 3 (some .int) 3 74 [.ref (xo X), .int a1, .int a2] σ (some (.int r)) σ' := MetZ.ofAt (by decide) (Nat.le_of_ble_eq_true rfl) (fun G _ Γ Ξ hR hret => wkX0_toll Γ Ξ hR h hret)

set_option maxHeartbeats 4000000 in
set_option maxRecDepth 100000 in
theorem wkX0_isTrailer {G : Gx} {X : Xw} {σ : St} {a1 : Int32} (Γ : Ok G RX0 cX0_isTrailer 2) (Ξ : OkX 0 G X) (hRm : Rm G 1 22) {r : Int32} (h : c_isTrailer σ a1 = some r) (hret : ∀ (pc : Nat) (lv : List (Nat × Value)), retIs cX0_isTrailer (some .boolean) (some (.int r)) pc → At G 2 σ lv [.int r] pc) : At G 2 σ [(0, .ref (xo X)), (1, .int a1)] [] 0 := by
  rw [c_isTrailer] at h
  refine A_iload_n Γ dX0_isTrailer_0 1 rfl ?_
  refine A_iconst (v := 0) Γ dX0_isTrailer_1 (by decide) ?_
  refine A_aload_n Γ dX0_isTrailer_2 0 rfl ?_
  refine g0_19 Γ Ξ dX0_isTrailer_3 ?_
  refine A_iconst (v := 1) Γ dX0_isTrailer_6 (by decide) ?_
  refine A_isub Γ dX0_isTrailer_7 ?_
  replace h := b1 h
  obtain ⟨v2, e1, h⟩ := h
  refine kX0_X0in Γ (kpX Ξ) hRm (by decide) (by decide) e1 (Nat.le_of_ble_eq_true rfl) dX0_isTrailer_8 ?_
  replace h := b1 h
  obtain ⟨v4, e3, h⟩ := h
  obtain ⟨rfl, hze3⟩ := bZ_in e3
  obtain rfl := inj1 h
  exact hret _ _ ⟨dX0_isTrailer_11, hze3⟩
theorem mtX0_isTrailer (l : Launch) (X : Xw) {σ : St} {a1 : Int32} {r : Int32} (h : c_isTrailer σ a1 = some r) : MetZ 0 l X yX0_isTrailer cX0_isTrailer 2 (some .boolean) 1 22 [.ref (xo X), .int a1] σ (some (.int r)) σ := MetZ.ofAt (by decide) (Nat.le_of_ble_eq_true rfl) (fun G _ Γ Ξ hR hret => wkX0_isTrailer Γ Ξ hR h hret)
theorem kX0_X0isTrailer {G : Gx} {X : Xw} {cc : ByteArray} {nL pc F LO : Nat} {σ : St} {lv : List (Nat × Value)} {st : List Value} (Γ : Ok G RX0 cc nL) (Ξ : OkX 0 G X) {a1 : Int32} {r : Int32} (hRm : Rm G F LO) (hf : 1 + 1 ≤ F) (hlo : 8 + (2 + 11) + 22 ≤ LO) (h : c_isTrailer σ a1 = some r) (hW : (st.map fun v => v.category).sum ≤ 8) (d : decode cc pc = .ok (.invokevirtual 294, 3)) (kk : At G nL σ lv (.int r :: st) (pc + 3)) : At G nL σ lv (.int a1 :: .ref (xo X) :: st) pc := A_callV Γ Ξ rfl rfl (mtX0_isTrailer (gl G) X h) (lw_V q687 q689 qs9 q63 q690) (n := 1) (by decide +kernel) (rm_ok hRm hf hlo) (rm_k hRm) rfl rfl hW d kk
set_option maxHeartbeats 4000000 in
set_option maxRecDepth 100000 in
theorem wkX0_enter {G : Gx} {X : Xw} {σ σ' : St} {a1 : Int32} {a2 : Int32} {a3 : Int32} {a4 : Int32} (Γ : Ok G RX0 cX0_enter 5) (Ξ : OkX 0 G X) (hRm : Rm G 0 0)  (h : c_enter σ a1 a2 a3 a4 = some σ') (hret : ∀ (pc : Nat) (lv : List (Nat × Value)), retIs cX0_enter none (none) pc → At G 5 σ' lv [] pc) : At G 5 σ [(0, .ref (xo X)), (1, .int a1), (2, .int a2), (3, .int a3), (4, .int a4)] [] 0 := by
  rw [c_enter] at h
  refine A_aload_n Γ dX0_enter_0 0 rfl ?_
  refine g0_23 Γ Ξ dX0_enter_1 ?_
  refine A_aload_n Γ dX0_enter_4 0 rfl ?_
  refine g0_22 Γ Ξ dX0_enter_5 ?_
  refine A_iload_n Γ dX0_enter_8 1 rfl ?_
  replace h := b1 h
  obtain ⟨σ1, e2, h⟩ := h
  refine w0_23 Γ Ξ e2 dX0_enter_9 ?_
  refine A_aload_n Γ dX0_enter_10 0 rfl ?_
  refine g0_24 Γ Ξ dX0_enter_11 ?_
  refine A_aload_n Γ dX0_enter_14 0 rfl ?_
  refine g0_22 Γ Ξ dX0_enter_15 ?_
  refine A_iload_n Γ dX0_enter_18 2 rfl ?_
  replace h := b1 h
  obtain ⟨σ3, e4, h⟩ := h
  refine w0_24 Γ Ξ e4 dX0_enter_19 ?_
  refine A_aload_n Γ dX0_enter_20 0 rfl ?_
  refine g0_25 Γ Ξ dX0_enter_21 ?_
  refine A_aload_n Γ dX0_enter_24 0 rfl ?_
  refine g0_22 Γ Ξ dX0_enter_25 ?_
  refine A_aload_n Γ dX0_enter_28 0 rfl ?_
  refine g0_11 Γ Ξ dX0_enter_29 ?_
  replace h := b1 h
  obtain ⟨σ5, e6, h⟩ := h
  refine w0_25 Γ Ξ e6 dX0_enter_32 ?_
  refine A_aload_n Γ dX0_enter_33 0 rfl ?_
  refine g0_26 Γ Ξ dX0_enter_34 ?_
  refine A_aload_n Γ dX0_enter_37 0 rfl ?_
  refine g0_22 Γ Ξ dX0_enter_38 ?_
  refine A_iload_n Γ dX0_enter_41 3 rfl ?_
  replace h := b1 h
  obtain ⟨σ7, e8, h⟩ := h
  refine w0_26 Γ Ξ e8 dX0_enter_42 ?_
  refine A_aload_n Γ dX0_enter_43 0 rfl ?_
  refine g0_27 Γ Ξ dX0_enter_44 ?_
  refine A_aload_n Γ dX0_enter_47 0 rfl ?_
  refine g0_22 Γ Ξ dX0_enter_48 ?_
  refine A_iload Γ dX0_enter_51 4 rfl ?_
  replace h := b1 h
  obtain ⟨σ9, e10, h⟩ := h
  refine w0_27 Γ Ξ e10 dX0_enter_53 ?_
  refine A_aload_n Γ dX0_enter_54 0 rfl ?_
  refine A_dup Γ dX0_enter_55 rfl ?_
  refine g0_22 Γ Ξ dX0_enter_56 ?_
  refine A_iconst (v := 1) Γ dX0_enter_59 (by decide) ?_
  refine A_iadd Γ dX0_enter_60 ?_
  refine p0_22 Γ Ξ dX0_enter_61 ?_
  obtain rfl := inj1 h
  exact hret _ _ dX0_enter_64
theorem mtX0_enter (l : Launch) (X : Xw) {σ σ' : St} {a1 : Int32} {a2 : Int32} {a3 : Int32} {a4 : Int32}  (h : c_enter σ a1 a2 a3 a4 = some σ') : MetZ 0 l X yX0_enter cX0_enter 5 none 0 0 [.ref (xo X), .int a1, .int a2, .int a3, .int a4] σ (none) σ' := MetZ.ofAt (by decide) (Nat.le_of_ble_eq_true rfl) (fun G _ Γ Ξ hR hret => wkX0_enter Γ Ξ hR h hret)
theorem kX0_X0enter {G : Gx} {X : Xw} {cc : ByteArray} {nL pc F LO : Nat} {σ σ' : St} {lv : List (Nat × Value)} {st : List Value} (Γ : Ok G RX0 cc nL) (Ξ : OkX 0 G X) {a1 : Int32} {a2 : Int32} {a3 : Int32} {a4 : Int32}  (hRm : Rm G F LO) (hf : 0 + 1 ≤ F) (hlo : 8 + (5 + 11) + 0 ≤ LO) (h : c_enter σ a1 a2 a3 a4 = some σ') (hW : (st.map fun v => v.category).sum ≤ 8) (d : decode cc pc = .ok (.invokevirtual 264, 3)) (kk : At G nL σ' lv (st) (pc + 3)) : At G nL σ lv (.int a4 :: .int a3 :: .int a2 :: .int a1 :: .ref (xo X) :: st) pc := A_callV Γ Ξ rfl rfl (mtX0_enter (gl G) X h) (lw_V q679 q681 qs8 q63 q682) (n := 4) (by decide +kernel) (rm_ok hRm hf hlo) (rm_k hRm) rfl rfl hW d kk
set_option maxHeartbeats 4000000 in
set_option maxRecDepth 100000 in
theorem wkX0_entryOf {G : Gx} {X : Xw} {σ : St} {a1 : Int32} {a2 : Int32} (Γ : Ok G RX0 cX0_entryOf 5) (Ξ : OkX 0 G X) (hRm : Rm G 0 0) {r : Int32} (h : c_entryOf σ a1 a2 = some r) (hret : ∀ (pc : Nat) (lv : List (Nat × Value)), retIs cX0_entryOf (some .int) (some (.int r)) pc → At G 5 σ lv [.int r] pc) : At G 5 σ [(0, .ref (xo X)), (1, .int a1), (2, .int a2)] [] 0 := by
  rw [c_entryOf] at h
  refine A_iconst (v := 0) Γ dX0_entryOf_0 (by decide) ?_
  refine A_istore_n (lv' := [(3, .int 0), (0, .ref (xo X)), (1, .int a1), (2, .int a2)]) Γ dX0_entryOf_1 (by decide) rfl ?_
  refine A_iconst (v := 0) Γ dX0_entryOf_2 (by decide) ?_
  refine A_istore (lv' := [(4, .int 0), (3, .int 0), (0, .ref (xo X)), (1, .int a1), (2, .int a2)]) Γ dX0_entryOf_3 (by decide) rfl ?_
  replace h := bR1 h
  obtain ⟨qqL1, eLL1, hsL1⟩ := h
  have hXL1 : ∀ (u4 : Unit), qqL1 = .inl u4 → At G 5 σ [] [] 42 := by
    intro u4 e0
    rcases hsL1 with ⟨u4z, e1, h⟩ | ⟨r1, e1, _⟩
    · cases e0.symm.trans e1
      refine A_bipush (v := (-9)) Γ dX0_entryOf_42 (by decide) ?_
      obtain rfl := inj1 h
      exact hret _ _ dX0_entryOf_44
    · cases e0.symm.trans e1
  have hRtL1 : ∀ w : Int32, qqL1 = .inr w → some w = some r := by
    intro w e0
    rcases hsL1 with ⟨u4z, e1, _⟩ | ⟨r1, e1, h9⟩
    · cases e0.symm.trans e1
    · cases e0.symm.trans e1; exact h9
  replace eLL1 := lq2_ex eLL1
  obtain ⟨nL1, eLL1⟩ := eLL1
  have hLL1 : ∀ (nL1 : Nat) (x2 : Int32) (x3 : Int32), lpf2 (c_entryOf_L1 σ a1 a2) nL1 x2 x3 = some qqL1 → At G 5 σ [(0, .ref (xo X)), (1, .int a1), (2, .int a2), (3, .int x2), (4, .int x3)] [] 5 := by
    intro nL1
    induction nL1 with
    | zero => intro x2 x3 eL1; exact (lpf2_0 eL1).elim
    | succ nL1 ihL1 =>
      intro x2 x3 eL1
      replace eL1 := lpf2_s eL1
      obtain ⟨qL1, eL1, hqL1⟩ := eL1
      rw [c_entryOf_L1] at eL1
      refine A_iload Γ dX0_entryOf_5 4 rfl ?_
      refine A_aload_n Γ dX0_entryOf_7 0 rfl ?_
      refine g0_22 Γ Ξ dX0_entryOf_8 ?_
      refine A_icmp_ge (t := 42) Γ dX0_entryOf_11 (by decide) (fun c => ?_) (fun c => ?_)
      · replace eL1 := it_t c eL1
        exact A_sub [] rfl (hXL1 _ (lpx2 eL1 hqL1).symm)
      · replace eL1 := it_f c eL1
        refine A_aload_n Γ dX0_entryOf_14 0 rfl ?_
        refine g0_23 Γ Ξ dX0_entryOf_15 ?_
        refine A_iload Γ dX0_entryOf_18 4 rfl ?_
        replace eL1 := b1 eL1
        obtain ⟨v5, e6, eL1⟩ := eL1
        refine r0_23 Γ Ξ e6 dX0_entryOf_20 ?_
        refine A_iload_n Γ dX0_entryOf_21 1 rfl ?_
        refine A_icmp_ne (t := 36) Γ dX0_entryOf_22 (by decide) (fun c => ?_) (fun c => ?_)
        · replace eL1 := it_f c eL1
          refine A_iinc (v := x3 + 1) (lv' := [(4, .int (x3 + 1)), (0, .ref (xo X)), (1, .int a1), (2, .int a2), (3, .int x2)]) Γ dX0_entryOf_36 4 rfl rfl (by decide) rfl ?_
          refine A_goto (t := 5) Γ dX0_entryOf_39 (by decide) ?_
          exact A_sub [1, 2, 3, 4, 0] rfl (ihL1 _ _ (lpc2 eL1 hqL1))
        · replace eL1 := it_t c eL1
          refine A_iload_n Γ dX0_entryOf_25 3 rfl ?_
          refine A_iload_n Γ dX0_entryOf_26 2 rfl ?_
          refine A_icmp_ne (t := 33) Γ dX0_entryOf_27 (by decide) (fun c => ?_) (fun c => ?_)
          · replace eL1 := it_f c eL1
            refine A_iinc (v := x2 + 1) (lv' := [(3, .int (x2 + 1)), (0, .ref (xo X)), (1, .int a1), (2, .int a2), (4, .int x3)]) Γ dX0_entryOf_33 3 rfl rfl (by decide) rfl ?_
            refine A_iinc (v := x3 + 1) (lv' := [(4, .int (x3 + 1)), (3, .int (x2 + 1)), (0, .ref (xo X)), (1, .int a1), (2, .int a2)]) Γ dX0_entryOf_36 4 rfl rfl (by decide) rfl ?_
            refine A_goto (t := 5) Γ dX0_entryOf_39 (by decide) ?_
            exact A_sub [2, 3, 4, 1, 0] rfl (ihL1 _ _ (lpc2 eL1 hqL1))
          · replace eL1 := it_t c eL1
            refine A_iload Γ dX0_entryOf_30 4 rfl ?_
            have rL1 := hRtL1 _ (lpx2 eL1 hqL1).symm
            obtain rfl := inj1 rL1
            exact hret _ _ dX0_entryOf_32
  exact A_sub [2, 3, 4, 1, 0] rfl (hLL1 _ _ _ eLL1)
theorem mtX0_entryOf (l : Launch) (X : Xw) {σ : St} {a1 : Int32} {a2 : Int32} {r : Int32} (h : c_entryOf σ a1 a2 = some r) : MetZ 0 l X yX0_entryOf cX0_entryOf 5 (some .int) 0 0 [.ref (xo X), .int a1, .int a2] σ (some (.int r)) σ := MetZ.ofAt (by decide) (Nat.le_of_ble_eq_true rfl) (fun G _ Γ Ξ hR hret => wkX0_entryOf Γ Ξ hR h hret)
theorem kX0_X0entryOf {G : Gx} {X : Xw} {cc : ByteArray} {nL pc F LO : Nat} {σ : St} {lv : List (Nat × Value)} {st : List Value} (Γ : Ok G RX0 cc nL) (Ξ : OkX 0 G X) {a1 : Int32} {a2 : Int32} {r : Int32} (hRm : Rm G F LO) (hf : 0 + 1 ≤ F) (hlo : 8 + (5 + 11) + 0 ≤ LO) (h : c_entryOf σ a1 a2 = some r) (hW : (st.map fun v => v.category).sum ≤ 8) (d : decode cc pc = .ok (.invokevirtual 327, 3)) (kk : At G nL σ lv (.int r :: st) (pc + 3)) : At G nL σ lv (.int a2 :: .int a1 :: .ref (xo X) :: st) pc := A_callV Γ Ξ rfl rfl (mtX0_entryOf (gl G) X h) (lw_V q803 q745 qs10 q63 q746) (n := 2) (by decide +kernel) (rm_ok hRm hf hlo) (rm_k hRm) rfl rfl hW d kk
set_option maxHeartbeats 4000000 in
set_option maxRecDepth 100000 in
theorem wkX0_tells {G : Gx} {X : Xw} {σ : St} {a0 : Nat} {a1 : Int32} (Γ : Ok G RX0 cX0_tells 2) (Ξ : OkX 0 G X) (hRm : Rm G 3 60) (ka0 : kTr a0) {r : Int32} (h : c_tells σ a0 a1 = some r) (hret : ∀ (pc : Nat) (lv : List (Nat × Value)), retIs cX0_tells (some .int) (some (.int r)) pc → At G 2 σ lv [.int r] pc) : At G 2 σ [(0, .ref (xad X a0)), (1, .int a1)] [] 0 := by
  rw [c_tells] at h
  refine A_iload_n Γ dX0_tells_0 1 rfl ?_
  by_cases c0 : a1 = 0
  · replace h := it_t c0 h
    refine A_tableIn (t := 44) (off := 43) Γ dX0_tells_1 (by rw [c0]; decide) (by rw [c0]; decide) (by rw [c0]; rfl) (by decide) ?_
    refine A_aload_n Γ dX0_tells_44 0 rfl ?_
    replace h := b1 h
    obtain ⟨n1, e2, h⟩ := h
    refine A_kind Γ Ξ ka0 rfl e2 hRm (by decide) (by decide) (Nat.le_of_ble_eq_true rfl) dX0_tells_45 ?_
    obtain rfl := inj1 h
    exact hret _ _ dX0_tells_48
  replace h := it_f c0 h
  by_cases c1 : a1 = 1
  · replace h := it_t c1 h
    refine A_tableIn (t := 49) (off := 48) Γ dX0_tells_1 (by rw [c1]; decide) (by rw [c1]; decide) (by rw [c1]; rfl) (by decide) ?_
    refine A_aload_n Γ dX0_tells_49 0 rfl ?_
    replace h := b1 h
    obtain ⟨v5, e6, h⟩ := h
    refine gTX0_2 Γ Ξ ka0 rfl e6 dX0_tells_50 ?_
    obtain rfl := inj1 h
    exact hret _ _ dX0_tells_53
  replace h := it_f c1 h
  by_cases c2 : a1 = 2
  · replace h := it_t c2 h
    refine A_tableIn (t := 54) (off := 53) Γ dX0_tells_1 (by rw [c2]; decide) (by rw [c2]; decide) (by rw [c2]; rfl) (by decide) ?_
    refine A_aload_n Γ dX0_tells_54 0 rfl ?_
    replace h := b1 h
    obtain ⟨v7, e8, h⟩ := h
    refine gTX0_3 Γ Ξ ka0 rfl e8 dX0_tells_55 ?_
    obtain rfl := inj1 h
    exact hret _ _ dX0_tells_58
  replace h := it_f c2 h
  by_cases c3 : a1 = 3
  · replace h := it_t c3 h
    refine A_tableIn (t := 59) (off := 58) Γ dX0_tells_1 (by rw [c3]; decide) (by rw [c3]; decide) (by rw [c3]; rfl) (by decide) ?_
    refine A_aload_n Γ dX0_tells_59 0 rfl ?_
    replace h := b1 h
    obtain ⟨v9, e10, h⟩ := h
    refine gTX0_4 Γ Ξ ka0 rfl e10 dX0_tells_60 ?_
    replace h := b1 h
    obtain ⟨x12, eJ11, h⟩ := h
    have hJJ11 : At G 2 σ [] [.int x12] 71 := by
      obtain rfl := inj1 h
      exact hret _ _ dX0_tells_71
    refine A_if_eq (t := 70) Γ dX0_tells_63 (by decide) (fun c => ?_) (fun c => ?_)
    · replace eJ11 := it_t c eJ11
      refine A_iconst (v := 0) Γ dX0_tells_70 (by decide) ?_
      obtain rfl := inj1 eJ11
      exact A_sub [] rfl hJJ11
    · replace eJ11 := it_f c eJ11
      refine A_iconst (v := 1) Γ dX0_tells_66 (by decide) ?_
      refine A_goto (t := 71) Γ dX0_tells_67 (by decide) ?_
      obtain rfl := inj1 eJ11
      exact A_sub [] rfl hJJ11
  replace h := it_f c3 h
  by_cases c4 : a1 = 4
  · replace h := it_t c4 h
    refine A_tableIn (t := 72) (off := 71) Γ dX0_tells_1 (by rw [c4]; decide) (by rw [c4]; decide) (by rw [c4]; rfl) (by decide) ?_
    refine A_aload_n Γ dX0_tells_72 0 rfl ?_
    replace h := b1 h
    obtain ⟨v13, e14, h⟩ := h
    refine gTX0_1 Γ Ξ ka0 rfl e14 dX0_tells_73 ?_
    obtain rfl := inj1 h
    exact hret _ _ dX0_tells_76
  replace h := it_f c4 h
  by_cases c5 : a1 = 5
  · replace h := it_t c5 h
    refine A_tableIn (t := 77) (off := 76) Γ dX0_tells_1 (by rw [c5]; decide) (by rw [c5]; decide) (by rw [c5]; rfl) (by decide) ?_
    refine A_aload_n Γ dX0_tells_77 0 rfl ?_
    replace h := b1 h
    obtain ⟨v15, e16, h⟩ := h
    refine gTX0_6 Γ Ξ ka0 rfl e16 dX0_tells_78 ?_
    obtain rfl := inj1 h
    exact hret _ _ dX0_tells_81
  replace h := it_f c5 h
  by_cases c6 : a1 = 6
  · replace h := it_t c6 h
    refine A_tableIn (t := 82) (off := 81) Γ dX0_tells_1 (by rw [c6]; decide) (by rw [c6]; decide) (by rw [c6]; rfl) (by decide) ?_
    refine A_aload_n Γ dX0_tells_82 0 rfl ?_
    replace h := b1 h
    obtain ⟨v17, e18, h⟩ := h
    refine gTX0_7 Γ Ξ ka0 rfl e18 dX0_tells_83 ?_
    obtain rfl := inj1 h
    exact hret _ _ dX0_tells_86
  replace h := it_f c6 h
  refine A_tableOut (t := 87) Γ dX0_tells_1 (tb_out (n := 7) (by decide) (fun j hj => by match j, hj with | 0, _ => exact c0 | 1, _ => exact c1 | 2, _ => exact c2 | 3, _ => exact c3 | 4, _ => exact c4 | 5, _ => exact c5 | 6, _ => exact c6)) (by decide) ?_
  refine A_aload_n Γ dX0_tells_87 0 rfl ?_
  replace h := b1 h
  obtain ⟨v19, e20, h⟩ := h
  refine gTX0_5 Γ Ξ ka0 rfl e20 dX0_tells_88 ?_
  replace h := b1 h
  obtain ⟨x22, eJ21, h⟩ := h
  have hJJ21 : At G 2 σ [] [.int x22] 99 := by
    obtain rfl := inj1 h
    exact hret _ _ dX0_tells_99
  refine A_if_eq (t := 98) Γ dX0_tells_91 (by decide) (fun c => ?_) (fun c => ?_)
  · replace eJ21 := it_t c eJ21
    refine A_iconst (v := 0) Γ dX0_tells_98 (by decide) ?_
    obtain rfl := inj1 eJ21
    exact A_sub [] rfl hJJ21
  · replace eJ21 := it_f c eJ21
    refine A_iconst (v := 1) Γ dX0_tells_94 (by decide) ?_
    refine A_goto (t := 99) Γ dX0_tells_95 (by decide) ?_
    obtain rfl := inj1 eJ21
    exact A_sub [] rfl hJJ21
theorem mtX0_tells (l : Launch) (X : Xw) {σ : St} {a0 : Nat} {a1 : Int32} (ka0 : kTr a0) {r : Int32} (h : c_tells σ a0 a1 = some r) : MetZ 0 l X yX0_tells cX0_tells 2 (some .int) 3 60 [.ref (xad X a0), .int a1] σ (some (.int r)) σ := MetZ.ofAt (by decide) (Nat.le_of_ble_eq_true rfl) (fun G _ Γ Ξ hR hret => wkX0_tells Γ Ξ hR ka0 h hret)
theorem kX0_X0tells {G : Gx} {X : Xw} {cc : ByteArray} {nL pc F LO : Nat} {σ : St} {lv : List (Nat × Value)} {st : List Value} (Γ : Ok G RX0 cc nL) (Ξ : OkX 0 G X) {a0 : Nat} {a1 : Int32} {r : Int32} (hRm : Rm G F LO) (hf : 3 + 1 ≤ F) (hlo : 8 + (2 + 11) + 60 ≤ LO) (ka0 : kTr a0) (h : c_tells σ a0 a1 = some r) (hW : (st.map fun v => v.category).sum ≤ 8) (d : decode cc pc = .ok (.invokestatic 297, 3)) (kk : At G nL σ lv (.int r :: st) (pc + 3)) : At G nL σ lv (.int a1 :: .ref (xad X a0) :: st) pc := A_callZ Γ Ξ rfl (mtX0_tells (gl G) X ka0 h) (lw_S q691 q692 q63 q693) (n := 2) (by decide +kernel) (rm_ok hRm hf hlo) (rm_k hRm) rfl rfl hW d kk
set_option maxHeartbeats 4000000 in
set_option maxRecDepth 100000 in
theorem wkX0_told {G : Gx} {X : Xw} {σ σ' : St} {a1 : Int32} {a2 : Int32} (Γ : Ok G RX0 cX0_told 3) (Ξ : OkX 0 G X) (hRm : Rm G 4 81) {r : Int32} (h : c_told σ a1 a2 = some (r, σ')) (hret : ∀ (pc : Nat) (lv : List (Nat × Value)), retIs cX0_told (some .int) (some (.int r)) pc → At G 3 σ' lv [.int r] pc) : At G 3 σ [(0, .ref (xo X)), (1, .int a1), (2, .int a2)] [] 0 := by
  rw [c_told] at h
  refine A_aload_n Γ dX0_told_0 0 rfl ?_
  refine A_iload_n Γ dX0_told_1 1 rfl ?_
  replace h := b1 h
  obtain ⟨v2, e1, h⟩ := h
  refine kX0_X0isTrailer Γ Ξ hRm (by decide) (by decide) e1 (Nat.le_of_ble_eq_true rfl) dX0_told_2 ?_
  replace h := b2 h
  obtain ⟨σ4, x5, eJ3, h⟩ := h
  have hJJ3 : At G 3 σ4 [] [.int x5] 37 := by
    obtain ⟨rfl, rfl⟩ := inj2 h
    exact hret _ _ dX0_told_37
  refine A_if_eq (t := 36) Γ dX0_told_5 (by decide) (fun c => ?_) (fun c => ?_)
  · replace eJ3 := it_t c eJ3
    refine A_iconst (v := (-1)) Γ dX0_told_36 (by decide) ?_
    obtain ⟨rfl, rfl⟩ := inj2 eJ3
    exact A_sub [] rfl hJJ3
  · replace eJ3 := it_f c eJ3
    refine A_iload_n Γ dX0_told_8 2 rfl ?_
    refine A_iconst (v := 0) Γ dX0_told_9 (by decide) ?_
    refine A_bipush (v := 7) Γ dX0_told_10 (by decide) ?_
    replace eJ3 := b1 eJ3
    obtain ⟨v7, e6, eJ3⟩ := eJ3
    refine kX0_X0in Γ (kpX Ξ) hRm (by decide) (by decide) e6 (Nat.le_of_ble_eq_true rfl) dX0_told_12 ?_
    refine A_if_eq (t := 36) Γ dX0_told_15 (by decide) (fun c => ?_) (fun c => ?_)
    · replace eJ3 := it_t c eJ3
      refine A_iconst (v := (-1)) Γ dX0_told_36 (by decide) ?_
      obtain ⟨rfl, rfl⟩ := inj2 eJ3
      exact A_sub [] rfl hJJ3
    · replace eJ3 := it_f c eJ3
      refine A_aload_n Γ dX0_told_18 0 rfl ?_
      refine A_aload_n Γ dX0_told_19 0 rfl ?_
      refine g0_18 Γ Ξ dX0_told_20 ?_
      refine A_iload_n Γ dX0_told_23 1 rfl ?_
      replace eJ3 := b1 eJ3
      obtain ⟨k8, e9, eJ3⟩ := eJ3
      refine A_trsD Γ Ξ e9 dX0_told_24 ?_
      refine A_iload_n Γ dX0_told_25 2 rfl ?_
      replace eJ3 := b1 eJ3
      obtain ⟨v11, e10, eJ3⟩ := eJ3
      refine kX0_X0tells Γ Ξ hRm (by decide) (by decide) (kTr_tD e9) e10 (Nat.le_of_ble_eq_true rfl) dX0_told_26 ?_
      refine A_iconst (v := 1) Γ dX0_told_29 (by decide) ?_
      replace eJ3 := b2 eJ3
      obtain ⟨v13, σ14, e12, eJ3⟩ := eJ3
      refine kX0_X0say Γ Ξ hRm (by decide) (by decide) e12 (Nat.le_of_ble_eq_true rfl) dX0_told_30 ?_
      refine A_goto (t := 37) Γ dX0_told_33 (by decide) ?_
      obtain ⟨rfl, rfl⟩ := inj2 eJ3
      exact A_sub [] rfl hJJ3
theorem mtX0_told (l : Launch) (X : Xw) {σ σ' : St} {a1 : Int32} {a2 : Int32} {r : Int32} (h : c_told σ a1 a2 = some (r, σ')) : MetZ 0 l X yX0_told cX0_told 3 (some .int) 4 81 [.ref (xo X), .int a1, .int a2] σ (some (.int r)) σ' := MetZ.ofAt (by decide) (Nat.le_of_ble_eq_true rfl) (fun G _ Γ Ξ hR hret => wkX0_told Γ Ξ hR h hret)

set_option maxHeartbeats 4000000 in
set_option maxRecDepth 100000 in
theorem wkX0_isTractor {G : Gx} {X : Xw} {σ : St} {a0 : Int32} (Γ : Ok G RX0 cX0_isTractor 1) (hkp : ∀ (H H1 : Heap), gP G σ H → (∀ q : Nat, q < H.size → H1[q]? = H[q]?) → gP G σ H1) (hRm : Rm G 1 22) {r : Int32} (h : c_isTractor a0 = some r) (hret : ∀ (pc : Nat) (lv : List (Nat × Value)), retIs cX0_isTractor (some .boolean) (some (.int r)) pc → At G 1 σ lv [.int r] pc) : At G 1 σ [(0, .int a0)] [] 0 := by
  rw [c_isTractor] at h
  refine A_iload_n Γ dX0_isTractor_0 0 rfl ?_
  refine A_iconst (v := 0) Γ dX0_isTractor_1 (by decide) ?_
  refine A_iconst (v := 5) Γ dX0_isTractor_2 (by decide) ?_
  replace h := b1 h
  obtain ⟨v2, e1, h⟩ := h
  refine kX0_X0in Γ hkp hRm (by decide) (by decide) e1 (Nat.le_of_ble_eq_true rfl) dX0_isTractor_3 ?_
  replace h := b1 h
  obtain ⟨v4, e3, h⟩ := h
  obtain ⟨rfl, hze3⟩ := bZ_in e3
  obtain rfl := inj1 h
  exact hret _ _ ⟨dX0_isTractor_6, hze3⟩
theorem mtX0_isTractor (l : Launch) {a0 : Int32} {r : Int32} (h : c_isTractor a0 = some r) : MetS l yX0_isTractor cX0_isTractor 1 (some .boolean) 1 22 [.int a0] (some (.int r)) := MetS.ofAt ((fun _ => 0), (fun _ => 0), (fun _ _ => 0), (fun _ _ => 0), fun _ => none) (by decide) (Nat.le_of_ble_eq_true rfl) (fun G _ Γ hR hp hret => wkX0_isTractor (X := (0, (fun _ => 0), (fun _ => 0), (fun _ _ => 0), (fun _ => 0), (fun _ => True))) Γ hp hR h hret)
theorem kX0_X0isTractor {G : Gx} {cc : ByteArray} {nL pc F LO : Nat} {σ : St} {lv : List (Nat × Value)} {st : List Value} (Γ : Ok G RX0 cc nL) (hkp : ∀ (H H1 : Heap), gP G σ H → (∀ q : Nat, q < H.size → H1[q]? = H[q]?) → gP G σ H1) {a0 : Int32} {r : Int32} (hRm : Rm G F LO) (hf : 1 + 1 ≤ F) (hlo : 8 + (1 + 11) + 22 ≤ LO) (h : c_isTractor a0 = some r) (hW : (st.map fun v => v.category).sum ≤ 8) (d : decode cc pc = .ok (.invokestatic 314, 3)) (kk : At G nL σ lv (.int r :: st) (pc + 3)) : At G nL σ lv (.int a0 :: st) pc := A_callS Γ hkp rfl (mtX0_isTractor (gl G) h) (lw_S q756 q757 q63 q758) (n := 1) (by decide +kernel) (rm_ok hRm hf hlo) (rm_k hRm) rfl rfl hW d kk
set_option maxHeartbeats 4000000 in
set_option maxRecDepth 100000 in
theorem wkX0_isOnWay {G : Gx} {X : Xw} {σ : St} {a1 : Int32} (Γ : Ok G RX0 cX0_isOnWay 2) (Ξ : OkX 0 G X) (hRm : Rm G 0 0) {r : Int32} (h : c_isOnWay σ a1 = some r) (hret : ∀ (pc : Nat) (lv : List (Nat × Value)), retIs cX0_isOnWay (some .boolean) (some (.int r)) pc → At G 2 σ lv [.int r] pc) : At G 2 σ [(0, .ref (xo X)), (1, .int a1)] [] 0 := by
  rw [c_isOnWay] at h
  refine A_aload_n Γ dX0_isOnWay_0 0 rfl ?_
  refine g0_29 Γ Ξ dX0_isOnWay_1 ?_
  refine A_iload_n Γ dX0_isOnWay_4 1 rfl ?_
  replace h := b1 h
  obtain ⟨v1, e2, h⟩ := h
  refine r0_29 Γ Ξ e2 dX0_isOnWay_5 ?_
  refine A_aload_n Γ dX0_isOnWay_6 0 rfl ?_
  refine g0_11 Γ Ξ dX0_isOnWay_7 ?_
  replace h := b1 h
  obtain ⟨x4, eJ3, h⟩ := h
  have hJJ3 : At G 2 σ [] [.int x4] 18 := by
    replace h := b1 h
    obtain ⟨v6, e5, h⟩ := h
    obtain ⟨rfl, hze5⟩ := bZ_in e5
    obtain rfl := inj1 h
    exact hret _ _ ⟨dX0_isOnWay_18, hze5⟩
  refine A_icmp_le (t := 17) Γ dX0_isOnWay_10 (by decide) (fun c => ?_) (fun c => ?_)
  · replace eJ3 := it_t c eJ3
    refine A_iconst (v := 0) Γ dX0_isOnWay_17 (by decide) ?_
    obtain rfl := inj1 eJ3
    exact A_sub [] rfl hJJ3
  · replace eJ3 := it_f c eJ3
    refine A_iconst (v := 1) Γ dX0_isOnWay_13 (by decide) ?_
    refine A_goto (t := 18) Γ dX0_isOnWay_14 (by decide) ?_
    obtain rfl := inj1 eJ3
    exact A_sub [] rfl hJJ3
theorem mtX0_isOnWay (l : Launch) (X : Xw) {σ : St} {a1 : Int32} {r : Int32} (h : c_isOnWay σ a1 = some r) : MetZ 0 l X yX0_isOnWay cX0_isOnWay 2 (some .boolean) 0 0 [.ref (xo X), .int a1] σ (some (.int r)) σ := MetZ.ofAt (by decide) (Nat.le_of_ble_eq_true rfl) (fun G _ Γ Ξ hR hret => wkX0_isOnWay Γ Ξ hR h hret)
theorem kX0_X0isOnWay {G : Gx} {X : Xw} {cc : ByteArray} {nL pc F LO : Nat} {σ : St} {lv : List (Nat × Value)} {st : List Value} (Γ : Ok G RX0 cc nL) (Ξ : OkX 0 G X) {a1 : Int32} {r : Int32} (hRm : Rm G F LO) (hf : 0 + 1 ≤ F) (hlo : 8 + (2 + 11) + 0 ≤ LO) (h : c_isOnWay σ a1 = some r) (hW : (st.map fun v => v.category).sum ≤ 8) (d : decode cc pc = .ok (.invokevirtual 317, 3)) (kk : At G nL σ lv (.int r :: st) (pc + 3)) : At G nL σ lv (.int a1 :: .ref (xo X) :: st) pc := A_callV Γ Ξ rfl rfl (mtX0_isOnWay (gl G) X h) (lw_V q759 q761 qs11 q63 q762) (n := 1) (by decide +kernel) (rm_ok hRm hf hlo) (rm_k hRm) rfl rfl hW d kk
set_option maxHeartbeats 4000000 in
set_option maxRecDepth 100000 in
theorem wkX0_park {G : Gx} {X : Xw} {σ σ' : St} {a1 : Int32} {a2 : Int32} (Γ : Ok G RX0 cX0_park 3) (Ξ : OkX 0 G X) (hRm : Rm G 2 42) {r : Int32} (h : c_park σ a1 a2 = some (r, σ')) (hret : ∀ (pc : Nat) (lv : List (Nat × Value)), retIs cX0_park (some .int) (some (.int r)) pc → At G 3 σ' lv [.int r] pc) : At G 3 σ [(0, .ref (xo X)), (1, .int a1), (2, .int a2)] [] 0 := by
  rw [c_park] at h
  refine A_iload_n Γ dX0_park_0 1 rfl ?_
  replace h := b1 h
  obtain ⟨v2, e1, h⟩ := h
  refine kX0_X0isTractor Γ (kpX Ξ) hRm (by decide) (by decide) e1 (Nat.le_of_ble_eq_true rfl) dX0_park_1 ?_
  refine A_if_eq (t := 14) Γ dX0_park_4 (by decide) (fun c => ?_) (fun c => ?_)
  · replace h := it_t c h
    refine A_iconst (v := (-1)) Γ dX0_park_14 (by decide) ?_
    obtain ⟨rfl, rfl⟩ := inj2 h
    exact hret _ _ dX0_park_15
  · replace h := it_f c h
    refine A_iload_n Γ dX0_park_7 2 rfl ?_
    replace h := b1 h
    obtain ⟨v4, e3, h⟩ := h
    refine kX0_X0isYard Γ (kpX Ξ) hRm (by decide) (by decide) e3 (Nat.le_of_ble_eq_true rfl) dX0_park_8 ?_
    refine A_if_ne (t := 16) Γ dX0_park_11 (by decide) (fun c => ?_) (fun c => ?_)
    · replace h := it_f c h
      refine A_aload_n Γ dX0_park_16 0 rfl ?_
      refine A_iload_n Γ dX0_park_17 1 rfl ?_
      replace h := b1 h
      obtain ⟨v6, e5, h⟩ := h
      refine kX0_X0isOnWay Γ Ξ hRm (by decide) (by decide) e5 (Nat.le_of_ble_eq_true rfl) dX0_park_18 ?_
      refine A_if_eq (t := 27) Γ dX0_park_21 (by decide) (fun c => ?_) (fun c => ?_)
      · replace h := it_t c h
        refine A_aload_n Γ dX0_park_27 0 rfl ?_
        refine g0_28 Γ Ξ dX0_park_28 ?_
        refine A_iload_n Γ dX0_park_31 1 rfl ?_
        refine A_iload_n Γ dX0_park_32 2 rfl ?_
        replace h := b1 h
        obtain ⟨σ7, e8, h⟩ := h
        refine w0_28 Γ Ξ e8 dX0_park_33 ?_
        refine A_aload_n Γ dX0_park_34 0 rfl ?_
        refine g0_29 Γ Ξ dX0_park_35 ?_
        refine A_iload_n Γ dX0_park_38 1 rfl ?_
        refine A_aload_n Γ dX0_park_39 0 rfl ?_
        refine g0_11 Γ Ξ dX0_park_40 ?_
        replace h := b1 h
        obtain ⟨σ9, e10, h⟩ := h
        refine w0_29 Γ Ξ e10 dX0_park_43 ?_
        refine A_aload_n Γ dX0_park_44 0 rfl ?_
        refine g0_31 Γ Ξ dX0_park_45 ?_
        refine A_iload_n Γ dX0_park_48 1 rfl ?_
        refine A_iconst (v := 0) Γ dX0_park_49 (by decide) ?_
        replace h := b1 h
        obtain ⟨σ11, e12, h⟩ := h
        refine w0_31 Γ Ξ e12 dX0_park_50 ?_
        refine A_iconst (v := 1) Γ dX0_park_51 (by decide) ?_
        obtain ⟨rfl, rfl⟩ := inj2 h
        exact hret _ _ dX0_park_52
      · replace h := it_f c h
        refine A_bipush (v := (-4)) Γ dX0_park_24 (by decide) ?_
        obtain ⟨rfl, rfl⟩ := inj2 h
        exact hret _ _ dX0_park_26
    · replace h := it_t c h
      refine A_iconst (v := (-1)) Γ dX0_park_14 (by decide) ?_
      obtain ⟨rfl, rfl⟩ := inj2 h
      exact hret _ _ dX0_park_15
theorem mtX0_park (l : Launch) (X : Xw) {σ σ' : St} {a1 : Int32} {a2 : Int32} {r : Int32} (h : c_park σ a1 a2 = some (r, σ')) : MetZ 0 l X yX0_park cX0_park 3 (some .int) 2 42 [.ref (xo X), .int a1, .int a2] σ (some (.int r)) σ' := MetZ.ofAt (by decide) (Nat.le_of_ble_eq_true rfl) (fun G _ Γ Ξ hR hret => wkX0_park Γ Ξ hR h hret)

set_option maxHeartbeats 4000000 in
set_option maxRecDepth 100000 in
theorem wkX0_hitch {G : Gx} {X : Xw} {σ σ' : St} {a1 : Int32} {a2 : Int32} (Γ : Ok G RX0 cX0_hitch 4) (Ξ : OkX 0 G X) (hRm : Rm G 2 43) {r : Int32} (h : c_hitch σ a1 a2 = some (r, σ')) (hret : ∀ (pc : Nat) (lv : List (Nat × Value)), retIs cX0_hitch (some .int) (some (.int r)) pc → At G 4 σ' lv [.int r] pc) : At G 4 σ [(0, .ref (xo X)), (1, .int a1), (2, .int a2)] [] 0 := by
  rw [c_hitch] at h
  refine A_iload_n Γ dX0_hitch_0 1 rfl ?_
  replace h := b1 h
  obtain ⟨v2, e1, h⟩ := h
  refine kX0_X0isTractor Γ (kpX Ξ) hRm (by decide) (by decide) e1 (Nat.le_of_ble_eq_true rfl) dX0_hitch_1 ?_
  refine A_if_eq (t := 15) Γ dX0_hitch_4 (by decide) (fun c => ?_) (fun c => ?_)
  · replace h := it_t c h
    refine A_iconst (v := (-1)) Γ dX0_hitch_15 (by decide) ?_
    obtain ⟨rfl, rfl⟩ := inj2 h
    exact hret _ _ dX0_hitch_16
  · replace h := it_f c h
    refine A_aload_n Γ dX0_hitch_7 0 rfl ?_
    refine A_iload_n Γ dX0_hitch_8 2 rfl ?_
    replace h := b1 h
    obtain ⟨v4, e3, h⟩ := h
    refine kX0_X0isTrailer Γ Ξ hRm (by decide) (by decide) e3 (Nat.le_of_ble_eq_true rfl) dX0_hitch_9 ?_
    refine A_if_ne (t := 17) Γ dX0_hitch_12 (by decide) (fun c => ?_) (fun c => ?_)
    · replace h := it_f c h
      refine A_aload_n Γ dX0_hitch_17 0 rfl ?_
      refine g0_18 Γ Ξ dX0_hitch_18 ?_
      refine A_iload_n Γ dX0_hitch_21 2 rfl ?_
      replace h := b1 h
      obtain ⟨k5, e6, h⟩ := h
      refine A_trsD Γ Ξ e6 dX0_hitch_22 ?_
      refine A_astore_n (lv' := [(3, .ref (xad X (120 + k5))), (0, .ref (xo X)), (1, .int a1), (2, .int a2)]) Γ dX0_hitch_23 (by decide) rfl ?_
      refine A_aload_n Γ dX0_hitch_24 1 rfl ?_
      refine A_iload_n Γ dX0_hitch_25 2 rfl ?_
      replace h := b1 h
      obtain ⟨v8, e7, h⟩ := h
      refine kX0_X0isOnWay Γ Ξ hRm (by decide) (by decide) e7 (Nat.le_of_ble_eq_true rfl) dX0_hitch_26 ?_
      refine A_if_ne (t := 56) Γ dX0_hitch_29 (by decide) (fun c => ?_) (fun c => ?_)
      · replace h := it_f c h
        refine A_bipush (v := (-4)) Γ dX0_hitch_56 (by decide) ?_
        obtain ⟨rfl, rfl⟩ := inj2 h
        exact hret _ _ dX0_hitch_58
      · replace h := it_t c h
        refine A_aload_n Γ dX0_hitch_32 1 rfl ?_
        refine g0_30 Γ Ξ dX0_hitch_33 ?_
        refine A_iload_n Γ dX0_hitch_36 2 rfl ?_
        replace h := b1 h
        obtain ⟨v9, e10, h⟩ := h
        refine r0_30 Γ Ξ e10 dX0_hitch_37 ?_
        refine A_bipush (v := (-9)) Γ dX0_hitch_38 (by decide) ?_
        refine A_icmp_ne (t := 56) Γ dX0_hitch_40 (by decide) (fun c => ?_) (fun c => ?_)
        · replace h := it_f c h
          refine A_bipush (v := (-4)) Γ dX0_hitch_56 (by decide) ?_
          obtain ⟨rfl, rfl⟩ := inj2 h
          exact hret _ _ dX0_hitch_58
        · replace h := it_t c h
          refine A_aload_n Γ dX0_hitch_43 0 rfl ?_
          replace h := b1 h
          obtain ⟨v11, e12, h⟩ := h
          refine gTX0_2 Γ Ξ (kTr_tD e6) rfl e12 dX0_hitch_44 ?_
          refine A_aload_n Γ dX0_hitch_47 1 rfl ?_
          refine g0_28 Γ Ξ dX0_hitch_48 ?_
          refine A_iload_n Γ dX0_hitch_51 2 rfl ?_
          replace h := b1 h
          obtain ⟨v13, e14, h⟩ := h
          refine r0_28 Γ Ξ e14 dX0_hitch_52 ?_
          refine A_icmp_eq (t := 59) Γ dX0_hitch_53 (by decide) (fun c => ?_) (fun c => ?_)
          · replace h := it_t c h
            refine A_aload_n Γ dX0_hitch_59 1 rfl ?_
            refine g0_22 Γ Ξ dX0_hitch_60 ?_
            refine A_bipush (v := 60) Γ dX0_hitch_63 (by decide) ?_
            refine A_icmp_ne (t := 71) Γ dX0_hitch_65 (by decide) (fun c => ?_) (fun c => ?_)
            · replace h := it_f c h
              refine A_aload_n Γ dX0_hitch_71 1 rfl ?_
              refine A_iload_n Γ dX0_hitch_72 3 rfl ?_
              refine A_iconst (v := 1) Γ dX0_hitch_73 (by decide) ?_
              refine A_iload_n Γ dX0_hitch_74 2 rfl ?_
              refine A_aload_n Γ dX0_hitch_75 0 rfl ?_
              replace h := b1 h
              obtain ⟨v15, e16, h⟩ := h
              refine gTX0_2 Γ Ξ (kTr_tD e6) rfl e16 dX0_hitch_76 ?_
              replace h := b1 h
              obtain ⟨σ18, e17, h⟩ := h
              refine kX0_X0enter Γ Ξ hRm (by decide) (by decide) e17 (Nat.le_of_ble_eq_true rfl) dX0_hitch_79 ?_
              refine A_aload_n Γ dX0_hitch_82 1 rfl ?_
              refine g0_30 Γ Ξ dX0_hitch_83 ?_
              refine A_iload_n Γ dX0_hitch_86 2 rfl ?_
              refine A_iload_n Γ dX0_hitch_87 3 rfl ?_
              replace h := b1 h
              obtain ⟨σ19, e20, h⟩ := h
              refine w0_30 Γ Ξ e20 dX0_hitch_88 ?_
              refine A_aload_n Γ dX0_hitch_89 0 rfl ?_
              refine A_iload_n Γ dX0_hitch_90 2 rfl ?_
              replace h := b1 h
              obtain ⟨σ21, e22, h⟩ := h
              refine pTX0_3 Γ Ξ (kTr_tD e6) rfl e22 dX0_hitch_91 ?_
              refine A_aload_n Γ dX0_hitch_94 0 rfl ?_
              refine A_bipush (v := (-9)) Γ dX0_hitch_95 (by decide) ?_
              replace h := b1 h
              obtain ⟨σ23, e24, h⟩ := h
              refine pTX0_2 Γ Ξ (kTr_tD e6) rfl e24 dX0_hitch_97 ?_
              refine A_iconst (v := 1) Γ dX0_hitch_100 (by decide) ?_
              obtain ⟨rfl, rfl⟩ := inj2 h
              exact hret _ _ dX0_hitch_101
            · replace h := it_t c h
              refine A_bipush (v := (-2)) Γ dX0_hitch_68 (by decide) ?_
              obtain ⟨rfl, rfl⟩ := inj2 h
              exact hret _ _ dX0_hitch_70
          · replace h := it_f c h
            refine A_bipush (v := (-4)) Γ dX0_hitch_56 (by decide) ?_
            obtain ⟨rfl, rfl⟩ := inj2 h
            exact hret _ _ dX0_hitch_58
    · replace h := it_t c h
      refine A_iconst (v := (-1)) Γ dX0_hitch_15 (by decide) ?_
      obtain ⟨rfl, rfl⟩ := inj2 h
      exact hret _ _ dX0_hitch_16
theorem mtX0_hitch (l : Launch) (X : Xw) {σ σ' : St} {a1 : Int32} {a2 : Int32} {r : Int32} (h : c_hitch σ a1 a2 = some (r, σ')) : MetZ 0 l X yX0_hitch cX0_hitch 4 (some .int) 2 43 [.ref (xo X), .int a1, .int a2] σ (some (.int r)) σ' := MetZ.ofAt (by decide) (Nat.le_of_ble_eq_true rfl) (fun G _ Γ Ξ hR hret => wkX0_hitch Γ Ξ hR h hret)

set_option maxHeartbeats 4000000 in
set_option maxRecDepth 100000 in
theorem wkX0_drop {G : Gx} {X : Xw} {σ σ' : St} {a1 : Int32} (Γ : Ok G RX0 cX0_drop 3) (Ξ : OkX 0 G X) (hRm : Rm G 2 42) {r : Int32} (h : c_drop σ a1 = some (r, σ')) (hret : ∀ (pc : Nat) (lv : List (Nat × Value)), retIs cX0_drop (some .int) (some (.int r)) pc → At G 3 σ' lv [.int r] pc) : At G 3 σ [(0, .ref (xo X)), (1, .int a1)] [] 0 := by
  rw [c_drop] at h
  refine A_iload_n Γ dX0_drop_0 1 rfl ?_
  replace h := b1 h
  obtain ⟨v2, e1, h⟩ := h
  refine kX0_X0isTractor Γ (kpX Ξ) hRm (by decide) (by decide) e1 (Nat.le_of_ble_eq_true rfl) dX0_drop_1 ?_
  refine A_if_ne (t := 9) Γ dX0_drop_4 (by decide) (fun c => ?_) (fun c => ?_)
  · replace h := it_f c h
    refine A_aload_n Γ dX0_drop_9 0 rfl ?_
    refine A_iload_n Γ dX0_drop_10 1 rfl ?_
    replace h := b1 h
    obtain ⟨v4, e3, h⟩ := h
    refine kX0_X0isOnWay Γ Ξ hRm (by decide) (by decide) e3 (Nat.le_of_ble_eq_true rfl) dX0_drop_11 ?_
    refine A_if_ne (t := 28) Γ dX0_drop_14 (by decide) (fun c => ?_) (fun c => ?_)
    · replace h := it_f c h
      refine A_bipush (v := (-4)) Γ dX0_drop_28 (by decide) ?_
      obtain ⟨rfl, rfl⟩ := inj2 h
      exact hret _ _ dX0_drop_30
    · replace h := it_t c h
      refine A_aload_n Γ dX0_drop_17 0 rfl ?_
      refine g0_30 Γ Ξ dX0_drop_18 ?_
      refine A_iload_n Γ dX0_drop_21 1 rfl ?_
      replace h := b1 h
      obtain ⟨v5, e6, h⟩ := h
      refine r0_30 Γ Ξ e6 dX0_drop_22 ?_
      refine A_bipush (v := (-9)) Γ dX0_drop_23 (by decide) ?_
      refine A_icmp_ne (t := 31) Γ dX0_drop_25 (by decide) (fun c => ?_) (fun c => ?_)
      · replace h := it_f c h
        refine A_aload_n Γ dX0_drop_31 0 rfl ?_
        refine g0_22 Γ Ξ dX0_drop_32 ?_
        refine A_bipush (v := 60) Γ dX0_drop_35 (by decide) ?_
        refine A_icmp_ne (t := 43) Γ dX0_drop_37 (by decide) (fun c => ?_) (fun c => ?_)
        · replace h := it_f c h
          refine A_aload_n Γ dX0_drop_43 0 rfl ?_
          refine g0_30 Γ Ξ dX0_drop_44 ?_
          refine A_iload_n Γ dX0_drop_47 1 rfl ?_
          replace h := b1 h
          obtain ⟨v7, e8, h⟩ := h
          refine r0_30 Γ Ξ e8 dX0_drop_48 ?_
          refine A_istore_n (lv' := [(2, .int v7), (0, .ref (xo X)), (1, .int a1)]) Γ dX0_drop_49 (by decide) rfl ?_
          refine A_aload_n Γ dX0_drop_50 1 rfl ?_
          refine g0_18 Γ Ξ dX0_drop_51 ?_
          refine A_iload_n Γ dX0_drop_54 0 rfl ?_
          replace h := b1 h
          obtain ⟨k9, e10, h⟩ := h
          refine A_trsD Γ Ξ e10 dX0_drop_55 ?_
          refine A_bipush (v := (-9)) Γ dX0_drop_56 (by decide) ?_
          replace h := b1 h
          obtain ⟨σ11, e12, h⟩ := h
          refine pTX0_3 Γ Ξ (kTr_tD e10) rfl e12 dX0_drop_58 ?_
          refine A_aload_n Γ dX0_drop_61 1 rfl ?_
          refine g0_18 Γ Ξ dX0_drop_62 ?_
          refine A_iload_n Γ dX0_drop_65 0 rfl ?_
          replace h := b1 h
          obtain ⟨k13, e14, h⟩ := h
          refine A_trsD Γ Ξ e14 dX0_drop_66 ?_
          refine A_aload_n Γ dX0_drop_67 1 rfl ?_
          refine g0_28 Γ Ξ dX0_drop_68 ?_
          refine A_iload_n Γ dX0_drop_71 2 rfl ?_
          replace h := b1 h
          obtain ⟨v15, e16, h⟩ := h
          refine r0_28 Γ Ξ e16 dX0_drop_72 ?_
          replace h := b1 h
          obtain ⟨σ17, e18, h⟩ := h
          refine pTX0_2 Γ Ξ (kTr_tD e14) rfl e18 dX0_drop_73 ?_
          refine A_aload_n Γ dX0_drop_76 1 rfl ?_
          refine g0_30 Γ Ξ dX0_drop_77 ?_
          refine A_iload_n Γ dX0_drop_80 2 rfl ?_
          refine A_bipush (v := (-9)) Γ dX0_drop_81 (by decide) ?_
          replace h := b1 h
          obtain ⟨σ19, e20, h⟩ := h
          refine w0_30 Γ Ξ e20 dX0_drop_83 ?_
          refine A_aload_n Γ dX0_drop_84 1 rfl ?_
          refine A_iload_n Γ dX0_drop_85 0 rfl ?_
          refine A_iconst (v := 0) Γ dX0_drop_86 (by decide) ?_
          refine A_aload_n Γ dX0_drop_87 1 rfl ?_
          refine g0_28 Γ Ξ dX0_drop_88 ?_
          refine A_iload_n Γ dX0_drop_91 2 rfl ?_
          replace h := b1 h
          obtain ⟨v21, e22, h⟩ := h
          refine r0_28 Γ Ξ e22 dX0_drop_92 ?_
          refine A_aload_n Γ dX0_drop_93 1 rfl ?_
          refine g0_28 Γ Ξ dX0_drop_94 ?_
          refine A_iload_n Γ dX0_drop_97 2 rfl ?_
          replace h := b1 h
          obtain ⟨v23, e24, h⟩ := h
          refine r0_28 Γ Ξ e24 dX0_drop_98 ?_
          replace h := b1 h
          obtain ⟨σ26, e25, h⟩ := h
          refine kX0_X0enter Γ Ξ hRm (by decide) (by decide) e25 (Nat.le_of_ble_eq_true rfl) dX0_drop_99 ?_
          refine A_iload_n Γ dX0_drop_102 0 rfl ?_
          obtain ⟨rfl, rfl⟩ := inj2 h
          exact hret _ _ dX0_drop_103
        · replace h := it_t c h
          refine A_bipush (v := (-2)) Γ dX0_drop_40 (by decide) ?_
          obtain ⟨rfl, rfl⟩ := inj2 h
          exact hret _ _ dX0_drop_42
      · replace h := it_t c h
        refine A_bipush (v := (-4)) Γ dX0_drop_28 (by decide) ?_
        obtain ⟨rfl, rfl⟩ := inj2 h
        exact hret _ _ dX0_drop_30
  · replace h := it_t c h
    refine A_iconst (v := (-1)) Γ dX0_drop_7 (by decide) ?_
    obtain ⟨rfl, rfl⟩ := inj2 h
    exact hret _ _ dX0_drop_8
theorem mtX0_drop (l : Launch) (X : Xw) {σ σ' : St} {a1 : Int32} {r : Int32} (h : c_drop σ a1 = some (r, σ')) : MetZ 0 l X yX0_drop cX0_drop 3 (some .int) 2 42 [.ref (xo X), .int a1] σ (some (.int r)) σ' := MetZ.ofAt (by decide) (Nat.le_of_ble_eq_true rfl) (fun G _ Γ Ξ hR hret => wkX0_drop Γ Ξ hR h hret)

set_option maxHeartbeats 4000000 in
set_option maxRecDepth 100000 in
theorem wkX0_forceOf {G : Gx} {X : Xw} {σ : St} {a1 : Int32} {a2 : Int32} {a3 : Int32} {a4 : Int32} (Γ : Ok G RX0 cX0_forceOf 10) (Ξ : OkX 0 G X) (hRm : Rm G 0 0) {r : Int32} (h : c_forceOf σ a1 a2 a3 a4 = some r) (hret : ∀ (pc : Nat) (lv : List (Nat × Value)), retIs cX0_forceOf (some .int) (some (.int r)) pc → At G 10 σ lv [.int r] pc) : At G 10 σ [(0, .ref (xo X)), (1, .int a1), (2, .int a2), (3, .int a3), (4, .int a4)] [] 0 := by
  rw [c_forceOf] at h
  refine A_iload_n Γ dX0_forceOf_0 1 rfl ?_
  replace h := b1 h
  obtain ⟨x2, eJ1, h⟩ := h
  have hJJ1 : At G 10 σ [(0, .ref (xo X)), (1, .int a1), (2, .int a2), (3, .int a3), (4, .int a4)] [.int x2] 32 := by
    refine A_istore (lv' := [(5, .int x2), (0, .ref (xo X)), (1, .int a1), (2, .int a2), (3, .int a3), (4, .int a4)]) Γ dX0_forceOf_32 (by decide) rfl ?_
    refine A_bipush (v := (-9)) Γ dX0_forceOf_34 (by decide) ?_
    refine A_istore (lv' := [(6, .int (-9)), (5, .int x2), (0, .ref (xo X)), (1, .int a1), (2, .int a2), (3, .int a3), (4, .int a4)]) Γ dX0_forceOf_36 (by decide) rfl ?_
    refine A_iconst (v := 0) Γ dX0_forceOf_38 (by decide) ?_
    refine A_istore (lv' := [(7, .int 0), (6, .int (-9)), (5, .int x2), (0, .ref (xo X)), (1, .int a1), (2, .int a2), (3, .int a3), (4, .int a4)]) Γ dX0_forceOf_39 (by decide) rfl ?_
    replace h := b1 h
    obtain ⟨x7, eLL3, h⟩ := h
    have hXL3 : At G 10 σ [(5, .int x7)] [] 179 := by
      refine A_iload Γ dX0_forceOf_179 0 rfl ?_
      obtain rfl := inj1 h
      exact hret _ _ dX0_forceOf_181
    replace eLL3 := lq3_ex eLL3
    obtain ⟨nL3, eLL3⟩ := eLL3
    have hLL3 : ∀ (nL3 : Nat) (x4 : Int32) (x5 : Int32) (x6 : Int32), lpf3 (c_forceOf_L3 σ a1 a2 a3 a4) nL3 x4 x5 x6 = some x7 → At G 10 σ [(0, .ref (xo X)), (1, .int a1), (2, .int a2), (3, .int a3), (4, .int a4), (5, .int x4), (6, .int x5), (7, .int x6)] [] 41 := by
      intro nL3
      induction nL3 with
      | zero => intro x4 x5 x6 eL3; exact (lpf3_0 eL3).elim
      | succ nL3 ihL3 =>
        intro x4 x5 x6 eL3
        replace eL3 := lpf3_s eL3
        obtain ⟨qL3, eL3, hqL3⟩ := eL3
        rw [c_forceOf_L3] at eL3
        refine A_iload Γ dX0_forceOf_41 7 rfl ?_
        refine A_aload_n Γ dX0_forceOf_43 0 rfl ?_
        refine g0_33 Γ Ξ dX0_forceOf_44 ?_
        refine A_icmp_ge (t := 179) Γ dX0_forceOf_47 (by decide) (fun c => ?_) (fun c => ?_)
        · replace eL3 := it_t c eL3
          obtain rfl := pr1 (lpx3 eL3 hqL3)
          exact A_sub [5] rfl hXL3
        · replace eL3 := it_f c eL3
          refine A_bipush (v := 20) Γ dX0_forceOf_50 (by decide) ?_
          refine A_iload Γ dX0_forceOf_52 7 rfl ?_
          refine A_imul Γ dX0_forceOf_54 ?_
          refine A_istore (lv' := [(8, .int (20 * x6)), (0, .ref (xo X)), (1, .int a1), (2, .int a2), (3, .int a3), (4, .int a4), (5, .int x4), (6, .int x5), (7, .int x6)]) Γ dX0_forceOf_55 (by decide) rfl ?_
          replace eL3 := b2 eL3
          obtain ⟨x12, x13, eLL8, eL3⟩ := eL3
          have hXL8 : At G 10 σ [(0, .ref (xo X)), (1, .int a1), (2, .int a2), (3, .int a3), (4, .int a4), (5, .int x12), (6, .int x13), (7, .int x6)] [] 173 := by
            refine A_iinc (v := x6 + 1) (lv' := [(7, .int (x6 + 1)), (0, .ref (xo X)), (1, .int a1), (2, .int a2), (3, .int a3), (4, .int a4), (5, .int x12), (6, .int x13)]) Γ dX0_forceOf_173 7 rfl rfl (by decide) rfl ?_
            refine A_goto (t := 41) Γ dX0_forceOf_176 (by decide) ?_
            exact A_sub [1, 2, 3, 4, 5, 6, 7, 0] rfl (ihL3 _ _ _ (lpc3 eL3 hqL3))
          replace eLL8 := lq3_ex eLL8
          obtain ⟨nL8, eLL8⟩ := eLL8
          have hLL8 : ∀ (nL8 : Nat) (x9 : Int32) (x10 : Int32) (x11 : Int32), lpf3 (c_forceOf_L8 σ a1 a2 a3 a4 x6) nL8 x9 x10 x11 = some (x12, x13) → At G 10 σ [(0, .ref (xo X)), (1, .int a1), (2, .int a2), (3, .int a3), (4, .int a4), (5, .int x9), (6, .int x10), (7, .int x6), (8, .int x11)] [] 57 := by
            intro nL8
            induction nL8 with
            | zero => intro x9 x10 x11 eL8; exact (lpf3_0 eL8).elim
            | succ nL8 ihL8 =>
              intro x9 x10 x11 eL8
              replace eL8 := lpf3_s eL8
              obtain ⟨qL8, eL8, hqL8⟩ := eL8
              rw [c_forceOf_L8] at eL8
              refine A_iload Γ dX0_forceOf_57 8 rfl ?_
              refine A_bipush (v := 20) Γ dX0_forceOf_59 (by decide) ?_
              refine A_iload Γ dX0_forceOf_61 7 rfl ?_
              refine A_imul Γ dX0_forceOf_63 ?_
              refine A_aload_n Γ dX0_forceOf_64 0 rfl ?_
              refine g0_36 Γ Ξ dX0_forceOf_65 ?_
              refine A_iload Γ dX0_forceOf_68 7 rfl ?_
              replace eL8 := b1 eL8
              obtain ⟨v14, e15, eL8⟩ := eL8
              refine r0_36 Γ Ξ e15 dX0_forceOf_70 ?_
              refine A_iadd Γ dX0_forceOf_71 ?_
              refine A_icmp_ge (t := 173) Γ dX0_forceOf_72 (by decide) (fun c => ?_) (fun c => ?_)
              · replace eL8 := it_t c eL8
                obtain ⟨rfl, rfl⟩ := pr2 (lpx3 eL8 hqL8)
                exact A_sub [0, 1, 2, 3, 4, 5, 6, 7] rfl hXL8
              · replace eL8 := it_f c eL8
                refine A_aload_n Γ dX0_forceOf_75 0 rfl ?_
                refine g0_37 Γ Ξ dX0_forceOf_76 ?_
                refine A_iload Γ dX0_forceOf_79 8 rfl ?_
                replace eL8 := b1 eL8
                obtain ⟨v16, e17, eL8⟩ := eL8
                refine r0_37 Γ Ξ e17 dX0_forceOf_81 ?_
                refine A_iload_n Γ dX0_forceOf_82 1 rfl ?_
                replace eL8 := b1 eL8
                obtain ⟨x19, eJ18, eL8⟩ := eL8
                have hJJ18 : At G 10 σ [(0, .ref (xo X)), (1, .int a1), (2, .int a2), (3, .int a3), (4, .int a4), (5, .int x9), (6, .int x10), (7, .int x6), (8, .int x11)] [.int x19] 107 := by
                  refine A_istore (lv' := [(9, .int x19), (0, .ref (xo X)), (1, .int a1), (2, .int a2), (3, .int a3), (4, .int a4), (5, .int x9), (6, .int x10), (7, .int x6), (8, .int x11)]) Γ dX0_forceOf_107 (by decide) rfl ?_
                  refine A_iload Γ dX0_forceOf_109 0 rfl ?_
                  replace eL8 := b2 eL8
                  obtain ⟨x23, x24, eJ22, eL8⟩ := eL8
                  have hJJ22 : At G 10 σ [(0, .ref (xo X)), (1, .int a1), (2, .int a2), (3, .int a3), (4, .int a4), (5, .int x23), (6, .int x24), (7, .int x6), (8, .int x11)] [] 167 := by
                    refine A_iinc (v := x11 + 1) (lv' := [(8, .int (x11 + 1)), (0, .ref (xo X)), (1, .int a1), (2, .int a2), (3, .int a3), (4, .int a4), (5, .int x23), (6, .int x24), (7, .int x6)]) Γ dX0_forceOf_167 8 rfl rfl (by decide) rfl ?_
                    refine A_goto (t := 57) Γ dX0_forceOf_170 (by decide) ?_
                    exact A_sub [1, 2, 3, 4, 5, 6, 7, 8, 0] rfl (ihL8 _ _ _ (lpc3 eL8 hqL8))
                  refine A_if_eq (t := 167) Γ dX0_forceOf_111 (by decide) (fun c => ?_) (fun c => ?_)
                  · replace eJ22 := it_t c eJ22
                    obtain ⟨rfl, rfl⟩ := inj2 eJ22
                    exact A_sub [1, 2, 3, 4, 5, 6, 7, 8, 9] rfl hJJ22
                  · replace eJ22 := it_f c eJ22
                    refine A_aload_n Γ dX0_forceOf_114 1 rfl ?_
                    refine g0_34 Γ Ξ dX0_forceOf_115 ?_
                    refine A_iload Γ dX0_forceOf_118 8 rfl ?_
                    replace eJ22 := b1 eJ22
                    obtain ⟨v25, e26, eJ22⟩ := eJ22
                    refine r0_34 Γ Ξ e26 dX0_forceOf_120 ?_
                    refine A_iload Γ dX0_forceOf_121 5 rfl ?_
                    refine A_icmp_gt (t := 167) Γ dX0_forceOf_123 (by decide) (fun c => ?_) (fun c => ?_)
                    · replace eJ22 := it_t c eJ22
                      obtain ⟨rfl, rfl⟩ := inj2 eJ22
                      exact A_sub [1, 2, 3, 4, 5, 6, 7, 8, 9] rfl hJJ22
                    · replace eJ22 := it_f c eJ22
                      refine A_aload_n Γ dX0_forceOf_126 1 rfl ?_
                      refine g0_35 Γ Ξ dX0_forceOf_127 ?_
                      refine A_iload Γ dX0_forceOf_130 8 rfl ?_
                      replace eJ22 := b1 eJ22
                      obtain ⟨v27, e28, eJ22⟩ := eJ22
                      refine r0_35 Γ Ξ e28 dX0_forceOf_132 ?_
                      refine A_iload_n Γ dX0_forceOf_133 4 rfl ?_
                      refine A_icmp_gt (t := 167) Γ dX0_forceOf_134 (by decide) (fun c => ?_) (fun c => ?_)
                      · replace eJ22 := it_t c eJ22
                        obtain ⟨rfl, rfl⟩ := inj2 eJ22
                        exact A_sub [1, 2, 3, 4, 5, 6, 7, 8, 9] rfl hJJ22
                      · replace eJ22 := it_f c eJ22
                        refine A_aload_n Γ dX0_forceOf_137 1 rfl ?_
                        refine g0_35 Γ Ξ dX0_forceOf_138 ?_
                        refine A_iload Γ dX0_forceOf_141 8 rfl ?_
                        replace eJ22 := b1 eJ22
                        obtain ⟨v29, e30, eJ22⟩ := eJ22
                        refine r0_35 Γ Ξ e30 dX0_forceOf_143 ?_
                        refine A_iload Γ dX0_forceOf_144 7 rfl ?_
                        refine A_icmp_lt (t := 167) Γ dX0_forceOf_146 (by decide) (fun c => ?_) (fun c => ?_)
                        · replace eJ22 := it_t c eJ22
                          obtain ⟨rfl, rfl⟩ := inj2 eJ22
                          exact A_sub [1, 2, 3, 4, 5, 6, 7, 8, 9] rfl hJJ22
                        · replace eJ22 := it_f c eJ22
                          refine A_aload_n Γ dX0_forceOf_149 1 rfl ?_
                          refine g0_39 Γ Ξ dX0_forceOf_150 ?_
                          refine A_iload Γ dX0_forceOf_153 9 rfl ?_
                          replace eJ22 := b1 eJ22
                          obtain ⟨v31, e32, eJ22⟩ := eJ22
                          refine r0_39 Γ Ξ e32 dX0_forceOf_155 ?_
                          refine A_istore (lv' := [(5, .int v31), (9, .int x19), (0, .ref (xo X)), (1, .int a1), (2, .int a2), (3, .int a3), (4, .int a4), (6, .int x10), (7, .int x6), (8, .int x11)]) Γ dX0_forceOf_156 (by decide) rfl ?_
                          refine A_aload_n Γ dX0_forceOf_158 2 rfl ?_
                          refine g0_35 Γ Ξ dX0_forceOf_159 ?_
                          refine A_iload Γ dX0_forceOf_162 8 rfl ?_
                          replace eJ22 := b1 eJ22
                          obtain ⟨v33, e34, eJ22⟩ := eJ22
                          refine r0_35 Γ Ξ e34 dX0_forceOf_164 ?_
                          refine A_istore (lv' := [(6, .int v33), (5, .int v31), (9, .int x19), (0, .ref (xo X)), (1, .int a1), (2, .int a2), (3, .int a3), (4, .int a4), (7, .int x6), (8, .int x11)]) Γ dX0_forceOf_165 (by decide) rfl ?_
                          obtain ⟨rfl, rfl⟩ := inj2 eJ22
                          exact A_sub [3, 4, 5, 6, 7, 1, 0, 8, 9] rfl hJJ22
                refine A_icmp_ne (t := 106) Γ dX0_forceOf_83 (by decide) (fun c => ?_) (fun c => ?_)
                · replace eJ18 := it_f c eJ18
                  refine A_iconst (v := 0) Γ dX0_forceOf_106 (by decide) ?_
                  obtain rfl := inj1 eJ18
                  exact A_sub [0, 1, 2, 3, 4, 5, 6, 7, 8] rfl hJJ18
                · replace eJ18 := it_t c eJ18
                  refine A_iload_n Γ dX0_forceOf_86 1 rfl ?_
                  refine A_iconst (v := 1) Γ dX0_forceOf_87 (by decide) ?_
                  refine A_icmp_gt (t := 102) Γ dX0_forceOf_88 (by decide) (fun c => ?_) (fun c => ?_)
                  · replace eJ18 := it_t c eJ18
                    refine A_iconst (v := 1) Γ dX0_forceOf_102 (by decide) ?_
                    refine A_goto (t := 107) Γ dX0_forceOf_103 (by decide) ?_
                    obtain rfl := inj1 eJ18
                    exact A_sub [0, 1, 2, 3, 4, 5, 6, 7, 8] rfl hJJ18
                  · replace eJ18 := it_f c eJ18
                    refine A_aload_n Γ dX0_forceOf_91 0 rfl ?_
                    refine g0_38 Γ Ξ dX0_forceOf_92 ?_
                    refine A_iload Γ dX0_forceOf_95 8 rfl ?_
                    replace eJ18 := b1 eJ18
                    obtain ⟨v20, e21, eJ18⟩ := eJ18
                    refine r0_38 Γ Ξ e21 dX0_forceOf_97 ?_
                    refine A_iload_n Γ dX0_forceOf_98 2 rfl ?_
                    refine A_icmp_ne (t := 106) Γ dX0_forceOf_99 (by decide) (fun c => ?_) (fun c => ?_)
                    · replace eJ18 := it_f c eJ18
                      refine A_iconst (v := 0) Γ dX0_forceOf_106 (by decide) ?_
                      obtain rfl := inj1 eJ18
                      exact A_sub [0, 1, 2, 3, 4, 5, 6, 7, 8] rfl hJJ18
                    · replace eJ18 := it_t c eJ18
                      refine A_iconst (v := 1) Γ dX0_forceOf_102 (by decide) ?_
                      refine A_goto (t := 107) Γ dX0_forceOf_103 (by decide) ?_
                      obtain rfl := inj1 eJ18
                      exact A_sub [0, 1, 2, 3, 4, 5, 6, 7, 8] rfl hJJ18
          exact A_sub [1, 2, 3, 4, 5, 6, 7, 8, 0] rfl (hLL8 _ _ _ _ eLL8)
    exact A_sub [3, 4, 5, 6, 7, 2, 1, 0] rfl (hLL3 _ _ _ _ eLL3)
  refine A_if_ne (t := 9) Γ dX0_forceOf_1 (by decide) (fun c => ?_) (fun c => ?_)
  · replace eJ1 := it_f c eJ1
    refine A_iload_n Γ dX0_forceOf_9 1 rfl ?_
    refine A_iconst (v := 1) Γ dX0_forceOf_10 (by decide) ?_
    refine A_icmp_ne (t := 18) Γ dX0_forceOf_11 (by decide) (fun c => ?_) (fun c => ?_)
    · replace eJ1 := it_f c eJ1
      refine A_iload_n Γ dX0_forceOf_18 1 rfl ?_
      refine A_iconst (v := 2) Γ dX0_forceOf_19 (by decide) ?_
      refine A_icmp_ne (t := 29) Γ dX0_forceOf_20 (by decide) (fun c => ?_) (fun c => ?_)
      · replace eJ1 := it_f c eJ1
        refine A_sipush (v := 480) Γ dX0_forceOf_29 (by decide) ?_
        obtain rfl := inj1 eJ1
        exact A_sub [0, 1, 2, 3, 4] rfl hJJ1
      · replace eJ1 := it_t c eJ1
        refine A_sipush (v := 600) Γ dX0_forceOf_23 (by decide) ?_
        refine A_goto (t := 32) Γ dX0_forceOf_26 (by decide) ?_
        obtain rfl := inj1 eJ1
        exact A_sub [0, 1, 2, 3, 4] rfl hJJ1
    · replace eJ1 := it_t c eJ1
      refine A_iconst (v := 0) Γ dX0_forceOf_14 (by decide) ?_
      refine A_goto (t := 32) Γ dX0_forceOf_15 (by decide) ?_
      obtain rfl := inj1 eJ1
      exact A_sub [0, 1, 2, 3, 4] rfl hJJ1
  · replace eJ1 := it_t c eJ1
    refine A_bipush (v := 120) Γ dX0_forceOf_4 (by decide) ?_
    refine A_goto (t := 32) Γ dX0_forceOf_6 (by decide) ?_
    obtain rfl := inj1 eJ1
    exact A_sub [0, 1, 2, 3, 4] rfl hJJ1
theorem mtX0_forceOf (l : Launch) (X : Xw) {σ : St} {a1 : Int32} {a2 : Int32} {a3 : Int32} {a4 : Int32} {r : Int32} (h : c_forceOf σ a1 a2 a3 a4 = some r) : MetZ 0 l X yX0_forceOf cX0_forceOf 10 (some .int) 0 0 [.ref (xo X), .int a1, .int a2, .int a3, .int a4] σ (some (.int r)) σ := MetZ.ofAt (by decide) (Nat.le_of_ble_eq_true rfl) (fun G _ Γ Ξ hR hret => wkX0_forceOf Γ Ξ hR h hret)
theorem kX0_X0forceOf {G : Gx} {X : Xw} {cc : ByteArray} {nL pc F LO : Nat} {σ : St} {lv : List (Nat × Value)} {st : List Value} (Γ : Ok G RX0 cc nL) (Ξ : OkX 0 G X) {a1 : Int32} {a2 : Int32} {a3 : Int32} {a4 : Int32} {r : Int32} (hRm : Rm G F LO) (hf : 0 + 1 ≤ F) (hlo : 8 + (10 + 11) + 0 ≤ LO) (h : c_forceOf σ a1 a2 a3 a4 = some r) (hW : (st.map fun v => v.category).sum ≤ 8) (d : decode cc pc = .ok (.invokevirtual 320, 3)) (kk : At G nL σ lv (.int r :: st) (pc + 3)) : At G nL σ lv (.int a4 :: .int a3 :: .int a2 :: .int a1 :: .ref (xo X) :: st) pc := A_callV Γ Ξ rfl rfl (mtX0_forceOf (gl G) X h) (lw_V q775 q777 qs12 q63 q778) (n := 4) (by decide +kernel) (rm_ok hRm hf hlo) (rm_k hRm) rfl rfl hW d kk
set_option maxHeartbeats 4000000 in
set_option maxRecDepth 100000 in
theorem wkX0_go {G : Gx} {X : Xw} {σ σ' : St} {a1 : Int32} {a2 : Int32} (Γ : Ok G RX0 cX0_go 7) (Ξ : OkX 0 G X) (hRm : Rm G 4 97) {r : Int32} (h : c_go σ a1 a2 = some (r, σ')) (hret : ∀ (pc : Nat) (lv : List (Nat × Value)), retIs cX0_go (some .int) (some (.int r)) pc → At G 7 σ' lv [.int r] pc) : At G 7 σ [(0, .ref (xo X)), (1, .int a1), (2, .int a2)] [] 0 := by
  rw [c_go] at h
  refine A_iload_n Γ dX0_go_0 1 rfl ?_
  replace h := b1 h
  obtain ⟨v2, e1, h⟩ := h
  refine kX0_X0isTractor Γ (kpX Ξ) hRm (by decide) (by decide) e1 (Nat.le_of_ble_eq_true rfl) dX0_go_1 ?_
  refine A_if_eq (t := 24) Γ dX0_go_4 (by decide) (fun c => ?_) (fun c => ?_)
  · replace h := it_t c h
    refine A_iconst (v := (-1)) Γ dX0_go_24 (by decide) ?_
    obtain ⟨rfl, rfl⟩ := inj2 h
    exact hret _ _ dX0_go_25
  · replace h := it_f c h
    refine A_iload_n Γ dX0_go_7 2 rfl ?_
    replace h := b1 h
    obtain ⟨v4, e3, h⟩ := h
    refine kX0_X0isYard Γ (kpX Ξ) hRm (by decide) (by decide) e3 (Nat.le_of_ble_eq_true rfl) dX0_go_8 ?_
    refine A_if_eq (t := 24) Γ dX0_go_11 (by decide) (fun c => ?_) (fun c => ?_)
    · replace h := it_t c h
      refine A_iconst (v := (-1)) Γ dX0_go_24 (by decide) ?_
      obtain ⟨rfl, rfl⟩ := inj2 h
      exact hret _ _ dX0_go_25
    · replace h := it_f c h
      refine A_iload_n Γ dX0_go_14 2 rfl ?_
      refine A_aload_n Γ dX0_go_15 0 rfl ?_
      refine g0_28 Γ Ξ dX0_go_16 ?_
      refine A_iload_n Γ dX0_go_19 1 rfl ?_
      replace h := b1 h
      obtain ⟨v5, e6, h⟩ := h
      refine r0_28 Γ Ξ e6 dX0_go_20 ?_
      refine A_icmp_ne (t := 26) Γ dX0_go_21 (by decide) (fun c => ?_) (fun c => ?_)
      · replace h := it_f c h
        refine A_aload_n Γ dX0_go_26 0 rfl ?_
        refine A_iload_n Γ dX0_go_27 1 rfl ?_
        replace h := b1 h
        obtain ⟨v8, e7, h⟩ := h
        refine kX0_X0isOnWay Γ Ξ hRm (by decide) (by decide) e7 (Nat.le_of_ble_eq_true rfl) dX0_go_28 ?_
        refine A_if_eq (t := 37) Γ dX0_go_31 (by decide) (fun c => ?_) (fun c => ?_)
        · replace h := it_t c h
          refine A_aload_n Γ dX0_go_37 0 rfl ?_
          refine A_aload_n Γ dX0_go_38 0 rfl ?_
          refine g0_28 Γ Ξ dX0_go_39 ?_
          refine A_iload_n Γ dX0_go_42 1 rfl ?_
          replace h := b1 h
          obtain ⟨v9, e10, h⟩ := h
          refine r0_28 Γ Ξ e10 dX0_go_43 ?_
          refine A_aload_n Γ dX0_go_44 0 rfl ?_
          refine g0_11 Γ Ξ dX0_go_45 ?_
          refine A_iload_n Γ dX0_go_48 2 rfl ?_
          replace h := b2 h
          obtain ⟨v12, σ13, e11, h⟩ := h
          refine kX0_X0comesTo Γ Ξ hRm (by decide) (by decide) e11 (Nat.le_of_ble_eq_true rfl) dX0_go_49 ?_
          refine A_istore_n (lv' := [(3, .int v12), (0, .ref (xo X)), (1, .int a1), (2, .int a2)]) Γ dX0_go_52 (by decide) rfl ?_
          refine A_iload_n Γ dX0_go_53 0 rfl ?_
          refine A_bipush (v := (-9)) Γ dX0_go_54 (by decide) ?_
          refine A_icmp_ne (t := 65) Γ dX0_go_56 (by decide) (fun c => ?_) (fun c => ?_)
          · replace h := it_f c h
            refine A_aload_n Γ dX0_go_65 1 rfl ?_
            refine g0_11 Γ Ξ dX0_go_66 ?_
            refine A_sipush (v := 1440) Γ dX0_go_69 (by decide) ?_
            refine A_idiv Γ dX0_go_72 (by decide) ?_
            refine A_istore (lv' := [(4, .int ((cI σ13 11) / 1440)), (3, .int v12), (0, .ref (xo X)), (1, .int a1), (2, .int a2)]) Γ dX0_go_73 (by decide) rfl ?_
            refine A_aload_n Γ dX0_go_75 2 rfl ?_
            refine g0_11 Γ Ξ dX0_go_76 ?_
            refine A_aload_n Γ dX0_go_79 2 rfl ?_
            refine g0_29 Γ Ξ dX0_go_80 ?_
            refine A_iload_n Γ dX0_go_83 3 rfl ?_
            replace h := b1 h
            obtain ⟨v14, e15, h⟩ := h
            refine r0_29 Γ Ξ e15 dX0_go_84 ?_
            refine A_isub Γ dX0_go_85 ?_
            refine A_aload_n Γ dX0_go_86 2 rfl ?_
            refine A_iconst (v := 3) Γ dX0_go_87 (by decide) ?_
            refine A_iconst (v := 0) Γ dX0_go_88 (by decide) ?_
            refine A_iload Γ dX0_go_89 0 rfl ?_
            refine A_iload Γ dX0_go_91 0 rfl ?_
            replace h := b1 h
            obtain ⟨v17, e16, h⟩ := h
            refine kX0_X0forceOf Γ Ξ hRm (by decide) (by decide) e16 (Nat.le_of_ble_eq_true rfl) dX0_go_93 ?_
            replace h := b1 h
            obtain ⟨x19, eJ18, h⟩ := h
            have hJJ18 : At G 7 σ13 [(0, .ref (xo X)), (1, .int a1), (2, .int a2), (3, .int v12), (4, .int ((cI σ13 11) / 1440))] [.int x19] 104 := by
              refine A_istore (lv' := [(5, .int x19), (0, .ref (xo X)), (1, .int a1), (2, .int a2), (3, .int v12), (4, .int ((cI σ13 11) / 1440))]) Γ dX0_go_104 (by decide) rfl ?_
              refine A_iload Γ dX0_go_106 0 rfl ?_
              replace h := b1 h
              obtain ⟨x21, eJ20, h⟩ := h
              have hJJ20 : At G 7 σ13 [(0, .ref (xo X)), (1, .int a1), (2, .int a2), (3, .int v12), (4, .int ((cI σ13 11) / 1440))] [.int x21] 121 := by
                refine A_istore (lv' := [(6, .int x21), (0, .ref (xo X)), (1, .int a1), (2, .int a2), (3, .int v12), (4, .int ((cI σ13 11) / 1440))]) Γ dX0_go_121 (by decide) rfl ?_
                refine A_iload_n Γ dX0_go_123 4 rfl ?_
                refine A_ldc (v := 99999) Γ q511 dX0_go_124 ?_
                refine A_icmp_gt (t := 151) Γ dX0_go_126 (by decide) (fun c => ?_) (fun c => ?_)
                · replace h := it_t c h
                  refine A_bipush (v := (-4)) Γ dX0_go_151 (by decide) ?_
                  obtain ⟨rfl, rfl⟩ := inj2 h
                  exact hret _ _ dX0_go_153
                · replace h := it_f c h
                  refine A_iload Γ dX0_go_129 0 rfl ?_
                  refine A_iload_n Γ dX0_go_131 4 rfl ?_
                  refine A_iadd Γ dX0_go_132 ?_
                  refine A_aload_n Γ dX0_go_133 1 rfl ?_
                  refine g0_11 Γ Ξ dX0_go_134 ?_
                  refine A_isub Γ dX0_go_137 ?_
                  refine A_aload_n Γ dX0_go_138 1 rfl ?_
                  refine A_iconst (v := 2) Γ dX0_go_139 (by decide) ?_
                  refine A_iconst (v := 0) Γ dX0_go_140 (by decide) ?_
                  refine A_iload Γ dX0_go_141 5 rfl ?_
                  refine A_iload Γ dX0_go_143 5 rfl ?_
                  replace h := b1 h
                  obtain ⟨v25, e24, h⟩ := h
                  refine kX0_X0forceOf Γ Ξ hRm (by decide) (by decide) e24 (Nat.le_of_ble_eq_true rfl) dX0_go_145 ?_
                  refine A_icmp_le (t := 154) Γ dX0_go_148 (by decide) (fun c => ?_) (fun c => ?_)
                  · replace h := it_t c h
                    refine A_aload_n Γ dX0_go_154 1 rfl ?_
                    refine g0_31 Γ Ξ dX0_go_155 ?_
                    refine A_iload_n Γ dX0_go_158 2 rfl ?_
                    refine A_iload Γ dX0_go_159 0 rfl ?_
                    refine A_iload_n Γ dX0_go_161 4 rfl ?_
                    refine A_iadd Γ dX0_go_162 ?_
                    refine A_aload_n Γ dX0_go_163 1 rfl ?_
                    refine g0_11 Γ Ξ dX0_go_164 ?_
                    refine A_isub Γ dX0_go_167 ?_
                    replace h := b1 h
                    obtain ⟨σ26, e27, h⟩ := h
                    refine w0_31 Γ Ξ e27 dX0_go_168 ?_
                    refine A_aload_n Γ dX0_go_169 1 rfl ?_
                    refine g0_32 Γ Ξ dX0_go_170 ?_
                    refine A_iload_n Γ dX0_go_173 2 rfl ?_
                    refine A_dup2 Γ dX0_go_174 rfl rfl ?_
                    replace h := b1 h
                    obtain ⟨v28, e29, h⟩ := h
                    refine r0_32 Γ Ξ e29 dX0_go_175 ?_
                    refine A_iload_n Γ dX0_go_176 4 rfl ?_
                    refine A_aload_n Γ dX0_go_177 1 rfl ?_
                    refine g0_11 Γ Ξ dX0_go_178 ?_
                    refine A_isub Γ dX0_go_181 ?_
                    refine A_iadd Γ dX0_go_182 ?_
                    replace h := b1 h
                    obtain ⟨σ30, e31, h⟩ := h
                    refine w0_32 Γ Ξ e31 dX0_go_183 ?_
                    refine A_aload_n Γ dX0_go_184 1 rfl ?_
                    refine g0_28 Γ Ξ dX0_go_185 ?_
                    refine A_iload_n Γ dX0_go_188 2 rfl ?_
                    refine A_iload_n Γ dX0_go_189 3 rfl ?_
                    replace h := b1 h
                    obtain ⟨σ32, e33, h⟩ := h
                    refine w0_28 Γ Ξ e33 dX0_go_190 ?_
                    refine A_aload_n Γ dX0_go_191 1 rfl ?_
                    refine g0_29 Γ Ξ dX0_go_192 ?_
                    refine A_iload_n Γ dX0_go_195 2 rfl ?_
                    refine A_iload_n Γ dX0_go_196 4 rfl ?_
                    replace h := b1 h
                    obtain ⟨σ34, e35, h⟩ := h
                    refine w0_29 Γ Ξ e35 dX0_go_197 ?_
                    refine A_iload_n Γ dX0_go_198 4 rfl ?_
                    obtain ⟨rfl, rfl⟩ := inj2 h
                    exact hret _ _ dX0_go_199
                  · replace h := it_f c h
                    refine A_bipush (v := (-4)) Γ dX0_go_151 (by decide) ?_
                    obtain ⟨rfl, rfl⟩ := inj2 h
                    exact hret _ _ dX0_go_153
              refine A_if_eq (t := 115) Γ dX0_go_108 (by decide) (fun c => ?_) (fun c => ?_)
              · replace eJ20 := it_t c eJ20
                refine A_aload_n Γ dX0_go_115 1 rfl ?_
                refine g0_31 Γ Ξ dX0_go_116 ?_
                refine A_iload_n Γ dX0_go_119 2 rfl ?_
                replace eJ20 := b1 eJ20
                obtain ⟨v22, e23, eJ20⟩ := eJ20
                refine r0_31 Γ Ξ e23 dX0_go_120 ?_
                obtain rfl := inj1 eJ20
                exact A_sub [1, 2, 3, 4, 5] rfl hJJ20
              · replace eJ20 := it_f c eJ20
                refine A_iconst (v := 0) Γ dX0_go_111 (by decide) ?_
                refine A_goto (t := 121) Γ dX0_go_112 (by decide) ?_
                obtain rfl := inj1 eJ20
                exact A_sub [1, 2, 3, 4, 5] rfl hJJ20
            refine A_icmp_lt (t := 103) Γ dX0_go_96 (by decide) (fun c => ?_) (fun c => ?_)
            · replace eJ18 := it_t c eJ18
              refine A_iconst (v := 0) Γ dX0_go_103 (by decide) ?_
              obtain rfl := inj1 eJ18
              exact A_sub [2, 3, 4, 1, 0] rfl hJJ18
            · replace eJ18 := it_f c eJ18
              refine A_iconst (v := 1) Γ dX0_go_99 (by decide) ?_
              refine A_goto (t := 104) Γ dX0_go_100 (by decide) ?_
              obtain rfl := inj1 eJ18
              exact A_sub [2, 3, 4, 1, 0] rfl hJJ18
          · replace h := it_t c h
            refine A_aload_n Γ dX0_go_59 1 rfl ?_
            refine A_iconst (v := 1) Γ dX0_go_60 (by decide) ?_
            replace h := b2 h
            obtain ⟨v37, σ38, e36, h⟩ := h
            refine kX0_X0found Γ Ξ hRm (by decide) (by decide) e36 (Nat.le_of_ble_eq_true rfl) dX0_go_61 ?_
            obtain ⟨rfl, rfl⟩ := inj2 h
            exact hret _ _ dX0_go_64
        · replace h := it_f c h
          refine A_bipush (v := (-4)) Γ dX0_go_34 (by decide) ?_
          obtain ⟨rfl, rfl⟩ := inj2 h
          exact hret _ _ dX0_go_36
      · replace h := it_t c h
        refine A_iconst (v := (-1)) Γ dX0_go_24 (by decide) ?_
        obtain ⟨rfl, rfl⟩ := inj2 h
        exact hret _ _ dX0_go_25
theorem mtX0_go (l : Launch) (X : Xw) {σ σ' : St} {a1 : Int32} {a2 : Int32} {r : Int32} (h : c_go σ a1 a2 = some (r, σ')) : MetZ 0 l X yX0_go cX0_go 7 (some .int) 4 97 [.ref (xo X), .int a1, .int a2] σ (some (.int r)) σ' := MetZ.ofAt (by decide) (Nat.le_of_ble_eq_true rfl) (fun G _ Γ Ξ hR hret => wkX0_go Γ Ξ hR h hret)

set_option maxHeartbeats 4000000 in
set_option maxRecDepth 100000 in
theorem wkX0_tractorTells {G : Gx} {X : Xw} {σ : St} {a1 : Int32} {a2 : Int32} (Γ : Ok G RX0 cX0_tractorTells 3) (Ξ : OkX 0 G X) (hRm : Rm G 0 0) {r : Int32} (h : c_tractorTells σ a1 a2 = some r) (hret : ∀ (pc : Nat) (lv : List (Nat × Value)), retIs cX0_tractorTells (some .int) (some (.int r)) pc → At G 3 σ lv [.int r] pc) : At G 3 σ [(0, .ref (xo X)), (1, .int a1), (2, .int a2)] [] 0 := by
  rw [c_tractorTells] at h
  refine A_iload_n Γ dX0_tractorTells_0 2 rfl ?_
  by_cases c0 : a2 = 0
  · replace h := it_t c0 h
    refine A_tableIn (t := 32) (off := 31) Γ dX0_tractorTells_1 (by rw [c0]; decide) (by rw [c0]; decide) (by rw [c0]; rfl) (by decide) ?_
    refine A_aload_n Γ dX0_tractorTells_32 0 rfl ?_
    refine g0_28 Γ Ξ dX0_tractorTells_33 ?_
    refine A_iload_n Γ dX0_tractorTells_36 1 rfl ?_
    replace h := b1 h
    obtain ⟨v1, e2, h⟩ := h
    refine r0_28 Γ Ξ e2 dX0_tractorTells_37 ?_
    obtain rfl := inj1 h
    exact hret _ _ dX0_tractorTells_38
  replace h := it_f c0 h
  by_cases c1 : a2 = 1
  · replace h := it_t c1 h
    refine A_tableIn (t := 39) (off := 38) Γ dX0_tractorTells_1 (by rw [c1]; decide) (by rw [c1]; decide) (by rw [c1]; rfl) (by decide) ?_
    refine A_aload_n Γ dX0_tractorTells_39 0 rfl ?_
    refine g0_29 Γ Ξ dX0_tractorTells_40 ?_
    refine A_iload_n Γ dX0_tractorTells_43 1 rfl ?_
    replace h := b1 h
    obtain ⟨v3, e4, h⟩ := h
    refine r0_29 Γ Ξ e4 dX0_tractorTells_44 ?_
    obtain rfl := inj1 h
    exact hret _ _ dX0_tractorTells_45
  replace h := it_f c1 h
  by_cases c2 : a2 = 2
  · replace h := it_t c2 h
    refine A_tableIn (t := 46) (off := 45) Γ dX0_tractorTells_1 (by rw [c2]; decide) (by rw [c2]; decide) (by rw [c2]; rfl) (by decide) ?_
    refine A_aload_n Γ dX0_tractorTells_46 0 rfl ?_
    refine g0_30 Γ Ξ dX0_tractorTells_47 ?_
    refine A_iload_n Γ dX0_tractorTells_50 1 rfl ?_
    replace h := b1 h
    obtain ⟨v5, e6, h⟩ := h
    refine r0_30 Γ Ξ e6 dX0_tractorTells_51 ?_
    obtain rfl := inj1 h
    exact hret _ _ dX0_tractorTells_52
  replace h := it_f c2 h
  by_cases c3 : a2 = 3
  · replace h := it_t c3 h
    refine A_tableIn (t := 53) (off := 52) Γ dX0_tractorTells_1 (by rw [c3]; decide) (by rw [c3]; decide) (by rw [c3]; rfl) (by decide) ?_
    refine A_aload_n Γ dX0_tractorTells_53 0 rfl ?_
    refine g0_31 Γ Ξ dX0_tractorTells_54 ?_
    refine A_iload_n Γ dX0_tractorTells_57 1 rfl ?_
    replace h := b1 h
    obtain ⟨v7, e8, h⟩ := h
    refine r0_31 Γ Ξ e8 dX0_tractorTells_58 ?_
    obtain rfl := inj1 h
    exact hret _ _ dX0_tractorTells_59
  replace h := it_f c3 h
  refine A_tableOut (t := 60) Γ dX0_tractorTells_1 (tb_out (n := 4) (by decide) (fun j hj => by match j, hj with | 0, _ => exact c0 | 1, _ => exact c1 | 2, _ => exact c2 | 3, _ => exact c3)) (by decide) ?_
  refine A_aload_n Γ dX0_tractorTells_60 0 rfl ?_
  refine g0_32 Γ Ξ dX0_tractorTells_61 ?_
  refine A_iload_n Γ dX0_tractorTells_64 1 rfl ?_
  replace h := b1 h
  obtain ⟨v9, e10, h⟩ := h
  refine r0_32 Γ Ξ e10 dX0_tractorTells_65 ?_
  obtain rfl := inj1 h
  exact hret _ _ dX0_tractorTells_66
theorem mtX0_tractorTells (l : Launch) (X : Xw) {σ : St} {a1 : Int32} {a2 : Int32} {r : Int32} (h : c_tractorTells σ a1 a2 = some r) : MetZ 0 l X yX0_tractorTells cX0_tractorTells 3 (some .int) 0 0 [.ref (xo X), .int a1, .int a2] σ (some (.int r)) σ := MetZ.ofAt (by decide) (Nat.le_of_ble_eq_true rfl) (fun G _ Γ Ξ hR hret => wkX0_tractorTells Γ Ξ hR h hret)
theorem kX0_X0tractorTells {G : Gx} {X : Xw} {cc : ByteArray} {nL pc F LO : Nat} {σ : St} {lv : List (Nat × Value)} {st : List Value} (Γ : Ok G RX0 cc nL) (Ξ : OkX 0 G X) {a1 : Int32} {a2 : Int32} {r : Int32} (hRm : Rm G F LO) (hf : 0 + 1 ≤ F) (hlo : 8 + (3 + 11) + 0 ≤ LO) (h : c_tractorTells σ a1 a2 = some r) (hW : (st.map fun v => v.category).sum ≤ 8) (d : decode cc pc = .ok (.invokevirtual 324, 3)) (kk : At G nL σ lv (.int r :: st) (pc + 3)) : At G nL σ lv (.int a2 :: .int a1 :: .ref (xo X) :: st) pc := A_callV Γ Ξ rfl rfl (mtX0_tractorTells (gl G) X h) (lw_V q783 q785 qs13 q63 q786) (n := 2) (by decide +kernel) (rm_ok hRm hf hlo) (rm_k hRm) rfl rfl hW d kk
set_option maxHeartbeats 4000000 in
set_option maxRecDepth 100000 in
theorem wkX0_tractor {G : Gx} {X : Xw} {σ σ' : St} {a1 : Int32} {a2 : Int32} (Γ : Ok G RX0 cX0_tractor 3) (Ξ : OkX 0 G X) (hRm : Rm G 2 42) {r : Int32} (h : c_tractor σ a1 a2 = some (r, σ')) (hret : ∀ (pc : Nat) (lv : List (Nat × Value)), retIs cX0_tractor (some .int) (some (.int r)) pc → At G 3 σ' lv [.int r] pc) : At G 3 σ [(0, .ref (xo X)), (1, .int a1), (2, .int a2)] [] 0 := by
  rw [c_tractor] at h
  refine A_iload_n Γ dX0_tractor_0 1 rfl ?_
  replace h := b1 h
  obtain ⟨v2, e1, h⟩ := h
  refine kX0_X0isTractor Γ (kpX Ξ) hRm (by decide) (by decide) e1 (Nat.le_of_ble_eq_true rfl) dX0_tractor_1 ?_
  replace h := b2 h
  obtain ⟨σ4, x5, eJ3, h⟩ := h
  have hJJ3 : At G 3 σ4 [] [.int x5] 31 := by
    obtain ⟨rfl, rfl⟩ := inj2 h
    exact hret _ _ dX0_tractor_31
  refine A_if_eq (t := 30) Γ dX0_tractor_4 (by decide) (fun c => ?_) (fun c => ?_)
  · replace eJ3 := it_t c eJ3
    refine A_iconst (v := (-1)) Γ dX0_tractor_30 (by decide) ?_
    obtain ⟨rfl, rfl⟩ := inj2 eJ3
    exact A_sub [] rfl hJJ3
  · replace eJ3 := it_f c eJ3
    refine A_iload_n Γ dX0_tractor_7 2 rfl ?_
    refine A_iconst (v := 0) Γ dX0_tractor_8 (by decide) ?_
    refine A_iconst (v := 4) Γ dX0_tractor_9 (by decide) ?_
    replace eJ3 := b1 eJ3
    obtain ⟨v7, e6, eJ3⟩ := eJ3
    refine kX0_X0in Γ (kpX Ξ) hRm (by decide) (by decide) e6 (Nat.le_of_ble_eq_true rfl) dX0_tractor_10 ?_
    refine A_if_eq (t := 30) Γ dX0_tractor_13 (by decide) (fun c => ?_) (fun c => ?_)
    · replace eJ3 := it_t c eJ3
      refine A_iconst (v := (-1)) Γ dX0_tractor_30 (by decide) ?_
      obtain ⟨rfl, rfl⟩ := inj2 eJ3
      exact A_sub [] rfl hJJ3
    · replace eJ3 := it_f c eJ3
      refine A_aload_n Γ dX0_tractor_16 0 rfl ?_
      refine A_aload_n Γ dX0_tractor_17 0 rfl ?_
      refine A_iload_n Γ dX0_tractor_18 1 rfl ?_
      refine A_iload_n Γ dX0_tractor_19 2 rfl ?_
      replace eJ3 := b1 eJ3
      obtain ⟨v9, e8, eJ3⟩ := eJ3
      refine kX0_X0tractorTells Γ Ξ hRm (by decide) (by decide) e8 (Nat.le_of_ble_eq_true rfl) dX0_tractor_20 ?_
      refine A_iconst (v := 1) Γ dX0_tractor_23 (by decide) ?_
      replace eJ3 := b2 eJ3
      obtain ⟨v11, σ12, e10, eJ3⟩ := eJ3
      refine kX0_X0say Γ Ξ hRm (by decide) (by decide) e10 (Nat.le_of_ble_eq_true rfl) dX0_tractor_24 ?_
      refine A_goto (t := 31) Γ dX0_tractor_27 (by decide) ?_
      obtain ⟨rfl, rfl⟩ := inj2 eJ3
      exact A_sub [] rfl hJJ3
theorem mtX0_tractor (l : Launch) (X : Xw) {σ σ' : St} {a1 : Int32} {a2 : Int32} {r : Int32} (h : c_tractor σ a1 a2 = some (r, σ')) : MetZ 0 l X yX0_tractor cX0_tractor 3 (some .int) 2 42 [.ref (xo X), .int a1, .int a2] σ (some (.int r)) σ' := MetZ.ofAt (by decide) (Nat.le_of_ble_eq_true rfl) (fun G _ Γ Ξ hR hret => wkX0_tractor Γ Ξ hR h hret)

set_option maxHeartbeats 4000000 in
set_option maxRecDepth 100000 in
theorem wkX0_lose {G : Gx} {X : Xw} {σ σ' : St} {a1 : Int32} (Γ : Ok G RX0 cX0_lose 3) (Ξ : OkX 0 G X) (hRm : Rm G 2 43) {r : Int32} (h : c_lose σ a1 = some (r, σ')) (hret : ∀ (pc : Nat) (lv : List (Nat × Value)), retIs cX0_lose (some .int) (some (.int r)) pc → At G 3 σ' lv [.int r] pc) : At G 3 σ [(0, .ref (xo X)), (1, .int a1)] [] 0 := by
  rw [c_lose] at h
  refine A_aload_n Γ dX0_lose_0 0 rfl ?_
  refine A_iload_n Γ dX0_lose_1 1 rfl ?_
  replace h := b1 h
  obtain ⟨v2, e1, h⟩ := h
  refine kX0_X0isTrailer Γ Ξ hRm (by decide) (by decide) e1 (Nat.le_of_ble_eq_true rfl) dX0_lose_2 ?_
  refine A_if_ne (t := 10) Γ dX0_lose_5 (by decide) (fun c => ?_) (fun c => ?_)
  · replace h := it_f c h
    refine A_aload_n Γ dX0_lose_10 0 rfl ?_
    refine g0_18 Γ Ξ dX0_lose_11 ?_
    refine A_iload_n Γ dX0_lose_14 1 rfl ?_
    replace h := b1 h
    obtain ⟨k3, e4, h⟩ := h
    refine A_trsD Γ Ξ e4 dX0_lose_15 ?_
    refine A_astore_n (lv' := [(2, .ref (xad X (120 + k3))), (0, .ref (xo X)), (1, .int a1)]) Γ dX0_lose_16 (by decide) rfl ?_
    refine A_aload_n Γ dX0_lose_17 0 rfl ?_
    replace h := b1 h
    obtain ⟨v5, e6, h⟩ := h
    refine gTX0_4 Γ Ξ (kTr_tD e4) rfl e6 dX0_lose_18 ?_
    refine A_if_eq (t := 27) Γ dX0_lose_21 (by decide) (fun c => ?_) (fun c => ?_)
    · replace h := it_t c h
      refine A_aload_n Γ dX0_lose_27 1 rfl ?_
      refine g0_22 Γ Ξ dX0_lose_28 ?_
      refine A_bipush (v := 60) Γ dX0_lose_31 (by decide) ?_
      refine A_icmp_ne (t := 39) Γ dX0_lose_33 (by decide) (fun c => ?_) (fun c => ?_)
      · replace h := it_f c h
        refine A_aload_n Γ dX0_lose_39 0 rfl ?_
        replace h := b1 h
        obtain ⟨v7, e8, h⟩ := h
        refine gTX0_3 Γ Ξ (kTr_tD e4) rfl e8 dX0_lose_40 ?_
        refine A_bipush (v := (-9)) Γ dX0_lose_43 (by decide) ?_
        replace h := b1 h
        obtain ⟨σ10, eJ9, h⟩ := h
        have hJJ9 : At G 3 σ10 [(0, .ref (xo X)), (1, .int a1), (2, .ref (xad X (120 + k3)))] [] 59 := by
          refine A_aload_n Γ dX0_lose_59 2 rfl ?_
          refine A_bipush (v := (-9)) Γ dX0_lose_60 (by decide) ?_
          replace h := b1 h
          obtain ⟨σ15, e16, h⟩ := h
          refine pTX0_3 Γ Ξ (kTr_tD e4) rfl e16 dX0_lose_62 ?_
          refine A_aload_n Γ dX0_lose_65 2 rfl ?_
          refine A_bipush (v := (-9)) Γ dX0_lose_66 (by decide) ?_
          replace h := b1 h
          obtain ⟨σ17, e18, h⟩ := h
          refine pTX0_2 Γ Ξ (kTr_tD e4) rfl e18 dX0_lose_68 ?_
          refine A_aload_n Γ dX0_lose_71 2 rfl ?_
          refine A_iconst (v := 1) Γ dX0_lose_72 (by decide) ?_
          replace h := b1 h
          obtain ⟨σ19, e20, h⟩ := h
          refine pTX0_4 Γ Ξ (kTr_tD e4) rfl (by decide) e20 dX0_lose_73 ?_
          refine A_aload_n Γ dX0_lose_76 0 rfl ?_
          refine A_iload_n Γ dX0_lose_77 1 rfl ?_
          refine A_iconst (v := 2) Γ dX0_lose_78 (by decide) ?_
          refine A_bipush (v := (-9)) Γ dX0_lose_79 (by decide) ?_
          refine A_bipush (v := (-9)) Γ dX0_lose_81 (by decide) ?_
          replace h := b1 h
          obtain ⟨σ22, e21, h⟩ := h
          refine kX0_X0enter Γ Ξ hRm (by decide) (by decide) e21 (Nat.le_of_ble_eq_true rfl) dX0_lose_83 ?_
          refine A_iconst (v := 1) Γ dX0_lose_86 (by decide) ?_
          obtain ⟨rfl, rfl⟩ := inj2 h
          exact hret _ _ dX0_lose_87
        refine A_icmp_eq (t := 59) Γ dX0_lose_45 (by decide) (fun c => ?_) (fun c => ?_)
        · replace eJ9 := it_t c eJ9
          obtain rfl := inj1 eJ9
          exact A_sub [1, 2, 0] rfl hJJ9
        · replace eJ9 := it_f c eJ9
          refine A_aload_n Γ dX0_lose_48 1 rfl ?_
          refine g0_30 Γ Ξ dX0_lose_49 ?_
          refine A_aload_n Γ dX0_lose_52 0 rfl ?_
          replace eJ9 := b1 eJ9
          obtain ⟨v11, e12, eJ9⟩ := eJ9
          refine gTX0_3 Γ Ξ (kTr_tD e4) rfl e12 dX0_lose_53 ?_
          refine A_bipush (v := (-9)) Γ dX0_lose_56 (by decide) ?_
          replace eJ9 := b1 eJ9
          obtain ⟨σ13, e14, eJ9⟩ := eJ9
          refine w0_30 Γ Ξ e14 dX0_lose_58 ?_
          obtain rfl := inj1 eJ9
          exact A_sub [1, 2, 0] rfl hJJ9
      · replace h := it_t c h
        refine A_bipush (v := (-2)) Γ dX0_lose_36 (by decide) ?_
        obtain ⟨rfl, rfl⟩ := inj2 h
        exact hret _ _ dX0_lose_38
    · replace h := it_f c h
      refine A_bipush (v := (-4)) Γ dX0_lose_24 (by decide) ?_
      obtain ⟨rfl, rfl⟩ := inj2 h
      exact hret _ _ dX0_lose_26
  · replace h := it_t c h
    refine A_iconst (v := (-1)) Γ dX0_lose_8 (by decide) ?_
    obtain ⟨rfl, rfl⟩ := inj2 h
    exact hret _ _ dX0_lose_9
theorem mtX0_lose (l : Launch) (X : Xw) {σ σ' : St} {a1 : Int32} {r : Int32} (h : c_lose σ a1 = some (r, σ')) : MetZ 0 l X yX0_lose cX0_lose 3 (some .int) 2 43 [.ref (xo X), .int a1] σ (some (.int r)) σ' := MetZ.ofAt (by decide) (Nat.le_of_ble_eq_true rfl) (fun G _ Γ Ξ hR hret => wkX0_lose Γ Ξ hR h hret)

set_option maxHeartbeats 4000000 in
set_option maxRecDepth 100000 in
theorem wkX0_find {G : Gx} {X : Xw} {σ σ' : St} {a1 : Int32} {a2 : Int32} (Γ : Ok G RX0 cX0_find 4) (Ξ : OkX 0 G X) (hRm : Rm G 2 43) {r : Int32} (h : c_find σ a1 a2 = some (r, σ')) (hret : ∀ (pc : Nat) (lv : List (Nat × Value)), retIs cX0_find (some .int) (some (.int r)) pc → At G 4 σ' lv [.int r] pc) : At G 4 σ [(0, .ref (xo X)), (1, .int a1), (2, .int a2)] [] 0 := by
  rw [c_find] at h
  refine A_aload_n Γ dX0_find_0 0 rfl ?_
  refine A_iload_n Γ dX0_find_1 1 rfl ?_
  replace h := b1 h
  obtain ⟨v2, e1, h⟩ := h
  refine kX0_X0isTrailer Γ Ξ hRm (by decide) (by decide) e1 (Nat.le_of_ble_eq_true rfl) dX0_find_2 ?_
  refine A_if_eq (t := 15) Γ dX0_find_5 (by decide) (fun c => ?_) (fun c => ?_)
  · replace h := it_t c h
    refine A_iconst (v := (-1)) Γ dX0_find_15 (by decide) ?_
    obtain ⟨rfl, rfl⟩ := inj2 h
    exact hret _ _ dX0_find_16
  · replace h := it_f c h
    refine A_iload_n Γ dX0_find_8 2 rfl ?_
    replace h := b1 h
    obtain ⟨v4, e3, h⟩ := h
    refine kX0_X0isYard Γ (kpX Ξ) hRm (by decide) (by decide) e3 (Nat.le_of_ble_eq_true rfl) dX0_find_9 ?_
    refine A_if_ne (t := 17) Γ dX0_find_12 (by decide) (fun c => ?_) (fun c => ?_)
    · replace h := it_f c h
      refine A_aload_n Γ dX0_find_17 0 rfl ?_
      refine g0_18 Γ Ξ dX0_find_18 ?_
      refine A_iload_n Γ dX0_find_21 1 rfl ?_
      replace h := b1 h
      obtain ⟨k5, e6, h⟩ := h
      refine A_trsD Γ Ξ e6 dX0_find_22 ?_
      refine A_astore_n (lv' := [(3, .ref (xad X (120 + k5))), (0, .ref (xo X)), (1, .int a1), (2, .int a2)]) Γ dX0_find_23 (by decide) rfl ?_
      refine A_aload_n Γ dX0_find_24 0 rfl ?_
      replace h := b1 h
      obtain ⟨v7, e8, h⟩ := h
      refine gTX0_4 Γ Ξ (kTr_tD e6) rfl e8 dX0_find_25 ?_
      refine A_if_ne (t := 34) Γ dX0_find_28 (by decide) (fun c => ?_) (fun c => ?_)
      · replace h := it_f c h
        refine A_aload_n Γ dX0_find_34 1 rfl ?_
        refine g0_22 Γ Ξ dX0_find_35 ?_
        refine A_bipush (v := 60) Γ dX0_find_38 (by decide) ?_
        refine A_icmp_ne (t := 46) Γ dX0_find_40 (by decide) (fun c => ?_) (fun c => ?_)
        · replace h := it_f c h
          refine A_aload_n Γ dX0_find_46 0 rfl ?_
          refine A_iconst (v := 0) Γ dX0_find_47 (by decide) ?_
          replace h := b1 h
          obtain ⟨σ9, e10, h⟩ := h
          refine pTX0_4 Γ Ξ (kTr_tD e6) rfl (by decide) e10 dX0_find_48 ?_
          refine A_aload_n Γ dX0_find_51 0 rfl ?_
          refine A_iload_n Γ dX0_find_52 3 rfl ?_
          replace h := b1 h
          obtain ⟨σ11, e12, h⟩ := h
          refine pTX0_2 Γ Ξ (kTr_tD e6) rfl e12 dX0_find_53 ?_
          refine A_aload_n Γ dX0_find_56 1 rfl ?_
          refine A_iload_n Γ dX0_find_57 2 rfl ?_
          refine A_iconst (v := 0) Γ dX0_find_58 (by decide) ?_
          refine A_iload_n Γ dX0_find_59 3 rfl ?_
          refine A_iload_n Γ dX0_find_60 3 rfl ?_
          replace h := b1 h
          obtain ⟨σ14, e13, h⟩ := h
          refine kX0_X0enter Γ Ξ hRm (by decide) (by decide) e13 (Nat.le_of_ble_eq_true rfl) dX0_find_61 ?_
          refine A_iconst (v := 1) Γ dX0_find_64 (by decide) ?_
          obtain ⟨rfl, rfl⟩ := inj2 h
          exact hret _ _ dX0_find_65
        · replace h := it_t c h
          refine A_bipush (v := (-2)) Γ dX0_find_43 (by decide) ?_
          obtain ⟨rfl, rfl⟩ := inj2 h
          exact hret _ _ dX0_find_45
      · replace h := it_t c h
        refine A_bipush (v := (-4)) Γ dX0_find_31 (by decide) ?_
        obtain ⟨rfl, rfl⟩ := inj2 h
        exact hret _ _ dX0_find_33
    · replace h := it_t c h
      refine A_iconst (v := (-1)) Γ dX0_find_15 (by decide) ?_
      obtain ⟨rfl, rfl⟩ := inj2 h
      exact hret _ _ dX0_find_16
theorem mtX0_find (l : Launch) (X : Xw) {σ σ' : St} {a1 : Int32} {a2 : Int32} {r : Int32} (h : c_find σ a1 a2 = some (r, σ')) : MetZ 0 l X yX0_find cX0_find 4 (some .int) 2 43 [.ref (xo X), .int a1, .int a2] σ (some (.int r)) σ' := MetZ.ofAt (by decide) (Nat.le_of_ble_eq_true rfl) (fun G _ Γ Ξ hR hret => wkX0_find Γ Ξ hR h hret)

set_option maxHeartbeats 4000000 in
set_option maxRecDepth 100000 in
theorem wkX0_seal {G : Gx} {X : Xw} {σ σ' : St} {a1 : Int32} {a2 : Int32} (Γ : Ok G RX0 cX0_seal 4) (Ξ : OkX 0 G X) (hRm : Rm G 2 43) {r : Int32} (h : c_seal σ a1 a2 = some (r, σ')) (hret : ∀ (pc : Nat) (lv : List (Nat × Value)), retIs cX0_seal (some .int) (some (.int r)) pc → At G 4 σ' lv [.int r] pc) : At G 4 σ [(0, .ref (xo X)), (1, .int a1), (2, .int a2)] [] 0 := by
  rw [c_seal] at h
  refine A_aload_n Γ dX0_seal_0 0 rfl ?_
  refine A_iload_n Γ dX0_seal_1 1 rfl ?_
  replace h := b1 h
  obtain ⟨v2, e1, h⟩ := h
  refine kX0_X0isTrailer Γ Ξ hRm (by decide) (by decide) e1 (Nat.le_of_ble_eq_true rfl) dX0_seal_2 ?_
  refine A_if_eq (t := 17) Γ dX0_seal_5 (by decide) (fun c => ?_) (fun c => ?_)
  · replace h := it_t c h
    refine A_iconst (v := (-1)) Γ dX0_seal_17 (by decide) ?_
    obtain ⟨rfl, rfl⟩ := inj2 h
    exact hret _ _ dX0_seal_18
  · replace h := it_f c h
    refine A_iload_n Γ dX0_seal_8 2 rfl ?_
    refine A_iconst (v := 3) Γ dX0_seal_9 (by decide) ?_
    refine A_iconst (v := 5) Γ dX0_seal_10 (by decide) ?_
    replace h := b1 h
    obtain ⟨v4, e3, h⟩ := h
    refine kX0_X0in Γ (kpX Ξ) hRm (by decide) (by decide) e3 (Nat.le_of_ble_eq_true rfl) dX0_seal_11 ?_
    refine A_if_ne (t := 19) Γ dX0_seal_14 (by decide) (fun c => ?_) (fun c => ?_)
    · replace h := it_f c h
      refine A_aload_n Γ dX0_seal_19 0 rfl ?_
      refine g0_18 Γ Ξ dX0_seal_20 ?_
      refine A_iload_n Γ dX0_seal_23 1 rfl ?_
      replace h := b1 h
      obtain ⟨k5, e6, h⟩ := h
      refine A_trsD Γ Ξ e6 dX0_seal_24 ?_
      refine A_astore_n (lv' := [(3, .ref (xad X (120 + k5))), (0, .ref (xo X)), (1, .int a1), (2, .int a2)]) Γ dX0_seal_25 (by decide) rfl ?_
      refine A_aload_n Γ dX0_seal_26 0 rfl ?_
      replace h := b1 h
      obtain ⟨v7, e8, h⟩ := h
      refine gTX0_4 Γ Ξ (kTr_tD e6) rfl e8 dX0_seal_27 ?_
      refine A_if_ne (t := 50) Γ dX0_seal_30 (by decide) (fun c => ?_) (fun c => ?_)
      · replace h := it_f c h
        refine A_bipush (v := (-4)) Γ dX0_seal_50 (by decide) ?_
        obtain ⟨rfl, rfl⟩ := inj2 h
        exact hret _ _ dX0_seal_52
      · replace h := it_t c h
        refine A_aload_n Γ dX0_seal_33 0 rfl ?_
        replace h := b1 h
        obtain ⟨v9, e10, h⟩ := h
        refine gTX0_5 Γ Ξ (kTr_tD e6) rfl e10 dX0_seal_34 ?_
        refine A_iload_n Γ dX0_seal_37 3 rfl ?_
        refine A_iconst (v := 3) Γ dX0_seal_38 (by decide) ?_
        replace h := b1 h
        obtain ⟨x12, eJ11, h⟩ := h
        have hJJ11 : At G 4 σ [(0, .ref (xo X)), (1, .int a1), (2, .int a2), (3, .ref (xad X (120 + k5)))] [.int x12, .int v9] 47 := by
          refine A_icmp_ne (t := 53) Γ dX0_seal_47 (by decide) (fun c => ?_) (fun c => ?_)
          · replace h := it_f c h
            refine A_aload_n Γ dX0_seal_53 0 rfl ?_
            refine g0_22 Γ Ξ dX0_seal_54 ?_
            refine A_bipush (v := 60) Γ dX0_seal_57 (by decide) ?_
            refine A_icmp_ne (t := 65) Γ dX0_seal_59 (by decide) (fun c => ?_) (fun c => ?_)
            · replace h := it_f c h
              refine A_aload_n Γ dX0_seal_65 3 rfl ?_
              refine A_iload_n Γ dX0_seal_66 2 rfl ?_
              refine A_iconst (v := 5) Γ dX0_seal_67 (by decide) ?_
              replace h := b1 h
              obtain ⟨x14, eJ13, h⟩ := h
              have hJJ13 : At G 4 σ [(0, .ref (xo X)), (1, .int a1), (2, .int a2)] [.int x14, .ref (xad X (120 + k5))] 76 := by
                replace h := b1 h
                obtain ⟨v18, e17, h⟩ := h
                obtain ⟨rfl, hze17⟩ := bZ_in e17
                replace h := b1 h
                obtain ⟨σ15, e16, h⟩ := h
                refine pTX0_5 Γ Ξ (kTr_tD e6) rfl hze17 e16 dX0_seal_76 ?_
                refine A_aload_n Γ dX0_seal_79 0 rfl ?_
                refine A_iload_n Γ dX0_seal_80 1 rfl ?_
                refine A_iload_n Γ dX0_seal_81 2 rfl ?_
                refine A_bipush (v := (-9)) Γ dX0_seal_82 (by decide) ?_
                refine A_bipush (v := (-9)) Γ dX0_seal_84 (by decide) ?_
                replace h := b1 h
                obtain ⟨σ20, e19, h⟩ := h
                refine kX0_X0enter Γ Ξ hRm (by decide) (by decide) e19 (Nat.le_of_ble_eq_true rfl) dX0_seal_86 ?_
                refine A_iconst (v := 1) Γ dX0_seal_89 (by decide) ?_
                obtain ⟨rfl, rfl⟩ := inj2 h
                exact hret _ _ dX0_seal_90
              refine A_icmp_eq (t := 75) Γ dX0_seal_68 (by decide) (fun c => ?_) (fun c => ?_)
              · replace eJ13 := it_t c eJ13
                refine A_iconst (v := 0) Γ dX0_seal_75 (by decide) ?_
                obtain rfl := inj1 eJ13
                exact A_sub [0, 1, 2] rfl hJJ13
              · replace eJ13 := it_f c eJ13
                refine A_iconst (v := 1) Γ dX0_seal_71 (by decide) ?_
                refine A_goto (t := 76) Γ dX0_seal_72 (by decide) ?_
                obtain rfl := inj1 eJ13
                exact A_sub [0, 1, 2] rfl hJJ13
            · replace h := it_t c h
              refine A_bipush (v := (-2)) Γ dX0_seal_62 (by decide) ?_
              obtain ⟨rfl, rfl⟩ := inj2 h
              exact hret _ _ dX0_seal_64
          · replace h := it_t c h
            refine A_bipush (v := (-4)) Γ dX0_seal_50 (by decide) ?_
            obtain ⟨rfl, rfl⟩ := inj2 h
            exact hret _ _ dX0_seal_52
        refine A_icmp_ne (t := 46) Γ dX0_seal_39 (by decide) (fun c => ?_) (fun c => ?_)
        · replace eJ11 := it_f c eJ11
          refine A_iconst (v := 0) Γ dX0_seal_46 (by decide) ?_
          obtain rfl := inj1 eJ11
          exact A_sub [1, 2, 3, 0] rfl hJJ11
        · replace eJ11 := it_t c eJ11
          refine A_iconst (v := 1) Γ dX0_seal_42 (by decide) ?_
          refine A_goto (t := 47) Γ dX0_seal_43 (by decide) ?_
          obtain rfl := inj1 eJ11
          exact A_sub [1, 2, 3, 0] rfl hJJ11
    · replace h := it_t c h
      refine A_iconst (v := (-1)) Γ dX0_seal_17 (by decide) ?_
      obtain ⟨rfl, rfl⟩ := inj2 h
      exact hret _ _ dX0_seal_18
theorem mtX0_seal (l : Launch) (X : Xw) {σ σ' : St} {a1 : Int32} {a2 : Int32} {r : Int32} (h : c_seal σ a1 a2 = some (r, σ')) : MetZ 0 l X yX0_seal cX0_seal 4 (some .int) 2 43 [.ref (xo X), .int a1, .int a2] σ (some (.int r)) σ' := MetZ.ofAt (by decide) (Nat.le_of_ble_eq_true rfl) (fun G _ Γ Ξ hR hret => wkX0_seal Γ Ξ hR h hret)

set_option maxHeartbeats 4000000 in
set_option maxRecDepth 100000 in
theorem wkX0_book {G : Gx} {X : Xw} {σ : St} {a1 : Int32} {a2 : Int32} {a3 : Int32} (Γ : Ok G RX0 cX0_book 5) (Ξ : OkX 0 G X) (hRm : Rm G 2 43) {r : Int32} (h : c_book σ a1 a2 a3 = some r) (hret : ∀ (pc : Nat) (lv : List (Nat × Value)), retIs cX0_book (some .int) (some (.int r)) pc → At G 5 σ lv [.int r] pc) : At G 5 σ [(0, .ref (xo X)), (1, .int a1), (2, .int a2), (3, .int a3)] [] 0 := by
  rw [c_book] at h
  refine A_aload_n Γ dX0_book_0 0 rfl ?_
  refine A_iload_n Γ dX0_book_1 1 rfl ?_
  replace h := b1 h
  obtain ⟨v2, e1, h⟩ := h
  refine kX0_X0isTrailer Γ Ξ hRm (by decide) (by decide) e1 (Nat.le_of_ble_eq_true rfl) dX0_book_2 ?_
  refine A_if_eq (t := 17) Γ dX0_book_5 (by decide) (fun c => ?_) (fun c => ?_)
  · replace h := it_t c h
    refine A_iconst (v := (-1)) Γ dX0_book_17 (by decide) ?_
    obtain rfl := inj1 h
    exact hret _ _ dX0_book_18
  · replace h := it_f c h
    refine A_iload_n Γ dX0_book_8 3 rfl ?_
    refine A_iconst (v := 0) Γ dX0_book_9 (by decide) ?_
    refine A_iconst (v := 2) Γ dX0_book_10 (by decide) ?_
    replace h := b1 h
    obtain ⟨v4, e3, h⟩ := h
    refine kX0_X0in Γ (kpX Ξ) hRm (by decide) (by decide) e3 (Nat.le_of_ble_eq_true rfl) dX0_book_11 ?_
    refine A_if_ne (t := 19) Γ dX0_book_14 (by decide) (fun c => ?_) (fun c => ?_)
    · replace h := it_f c h
      refine A_aload_n Γ dX0_book_19 0 rfl ?_
      refine A_iload_n Γ dX0_book_20 1 rfl ?_
      refine A_iload_n Γ dX0_book_21 2 rfl ?_
      replace h := b1 h
      obtain ⟨v6, e5, h⟩ := h
      refine kX0_X0entryOf Γ Ξ hRm (by decide) (by decide) e5 (Nat.le_of_ble_eq_true rfl) dX0_book_22 ?_
      refine A_istore (lv' := [(4, .int v6), (0, .ref (xo X)), (1, .int a1), (2, .int a2), (3, .int a3)]) Γ dX0_book_25 (by decide) rfl ?_
      refine A_iload Γ dX0_book_27 0 rfl ?_
      refine A_bipush (v := (-9)) Γ dX0_book_29 (by decide) ?_
      replace h := b1 h
      obtain ⟨x8, eJ7, h⟩ := h
      have hJJ7 : At G 5 σ [] [.int x8] 75 := by
        obtain rfl := inj1 h
        exact hret _ _ dX0_book_75
      refine A_icmp_ne (t := 39) Γ dX0_book_31 (by decide) (fun c => ?_) (fun c => ?_)
      · replace eJ7 := it_f c eJ7
        refine A_iload_n Γ dX0_book_39 4 rfl ?_
        refine A_if_ne (t := 53) Γ dX0_book_40 (by decide) (fun c => ?_) (fun c => ?_)
        · replace eJ7 := it_f c eJ7
          refine A_iload_n Γ dX0_book_53 4 rfl ?_
          refine A_iconst (v := 1) Γ dX0_book_54 (by decide) ?_
          refine A_icmp_ne (t := 68) Γ dX0_book_55 (by decide) (fun c => ?_) (fun c => ?_)
          · replace eJ7 := it_f c eJ7
            refine A_aload_n Γ dX0_book_68 1 rfl ?_
            refine g0_26 Γ Ξ dX0_book_69 ?_
            refine A_iload Γ dX0_book_72 0 rfl ?_
            replace eJ7 := b1 eJ7
            obtain ⟨v9, e10, eJ7⟩ := eJ7
            refine r0_26 Γ Ξ e10 dX0_book_74 ?_
            obtain rfl := inj1 eJ7
            exact A_sub [] rfl hJJ7
          · replace eJ7 := it_t c eJ7
            refine A_aload_n Γ dX0_book_58 1 rfl ?_
            refine g0_25 Γ Ξ dX0_book_59 ?_
            refine A_iload Γ dX0_book_62 0 rfl ?_
            replace eJ7 := b1 eJ7
            obtain ⟨v11, e12, eJ7⟩ := eJ7
            refine r0_25 Γ Ξ e12 dX0_book_64 ?_
            refine A_goto (t := 75) Γ dX0_book_65 (by decide) ?_
            obtain rfl := inj1 eJ7
            exact A_sub [] rfl hJJ7
        · replace eJ7 := it_t c eJ7
          refine A_aload_n Γ dX0_book_43 1 rfl ?_
          refine g0_24 Γ Ξ dX0_book_44 ?_
          refine A_iload Γ dX0_book_47 0 rfl ?_
          replace eJ7 := b1 eJ7
          obtain ⟨v13, e14, eJ7⟩ := eJ7
          refine r0_24 Γ Ξ e14 dX0_book_49 ?_
          refine A_goto (t := 75) Γ dX0_book_50 (by decide) ?_
          obtain rfl := inj1 eJ7
          exact A_sub [] rfl hJJ7
      · replace eJ7 := it_t c eJ7
        refine A_bipush (v := (-9)) Γ dX0_book_34 (by decide) ?_
        refine A_goto (t := 75) Γ dX0_book_36 (by decide) ?_
        obtain rfl := inj1 eJ7
        exact A_sub [] rfl hJJ7
    · replace h := it_t c h
      refine A_iconst (v := (-1)) Γ dX0_book_17 (by decide) ?_
      obtain rfl := inj1 h
      exact hret _ _ dX0_book_18
theorem mtX0_book (l : Launch) (X : Xw) {σ : St} {a1 : Int32} {a2 : Int32} {a3 : Int32} {r : Int32} (h : c_book σ a1 a2 a3 = some r) : MetZ 0 l X yX0_book cX0_book 5 (some .int) 2 43 [.ref (xo X), .int a1, .int a2, .int a3] σ (some (.int r)) σ := MetZ.ofAt (by decide) (Nat.le_of_ble_eq_true rfl) (fun G _ Γ Ξ hR hret => wkX0_book Γ Ξ hR h hret)

set_option maxHeartbeats 4000000 in
set_option maxRecDepth 100000 in
theorem wkX0_where {G : Gx} {X : Xw} {σ : St} {a1 : Int32} {a2 : Int32} (Γ : Ok G RX0 cX0_where 5) (Ξ : OkX 0 G X) (hRm : Rm G 2 43) {r : Int32} (h : c_where σ a1 a2 = some r) (hret : ∀ (pc : Nat) (lv : List (Nat × Value)), retIs cX0_where (some .int) (some (.int r)) pc → At G 5 σ lv [.int r] pc) : At G 5 σ [(0, .ref (xo X)), (1, .int a1), (2, .int a2)] [] 0 := by
  rw [c_where] at h
  refine A_aload_n Γ dX0_where_0 0 rfl ?_
  refine A_iload_n Γ dX0_where_1 1 rfl ?_
  replace h := b1 h
  obtain ⟨v2, e1, h⟩ := h
  refine kX0_X0isTrailer Γ Ξ hRm (by decide) (by decide) e1 (Nat.le_of_ble_eq_true rfl) dX0_where_2 ?_
  refine A_if_eq (t := 20) Γ dX0_where_5 (by decide) (fun c => ?_) (fun c => ?_)
  · replace h := it_t c h
    refine A_iconst (v := (-1)) Γ dX0_where_20 (by decide) ?_
    obtain rfl := inj1 h
    exact hret _ _ dX0_where_21
  · replace h := it_f c h
    refine A_iload_n Γ dX0_where_8 2 rfl ?_
    refine A_iconst (v := 0) Γ dX0_where_9 (by decide) ?_
    refine A_aload_n Γ dX0_where_10 0 rfl ?_
    refine g0_11 Γ Ξ dX0_where_11 ?_
    replace h := b1 h
    obtain ⟨v4, e3, h⟩ := h
    refine kX0_X0in Γ (kpX Ξ) hRm (by decide) (by decide) e3 (Nat.le_of_ble_eq_true rfl) dX0_where_14 ?_
    refine A_if_ne (t := 22) Γ dX0_where_17 (by decide) (fun c => ?_) (fun c => ?_)
    · replace h := it_f c h
      refine A_bipush (v := (-9)) Γ dX0_where_22 (by decide) ?_
      refine A_istore_n (lv' := [(3, .int (-9)), (0, .ref (xo X)), (1, .int a1), (2, .int a2)]) Γ dX0_where_24 (by decide) rfl ?_
      refine A_iconst (v := 0) Γ dX0_where_25 (by decide) ?_
      refine A_istore (lv' := [(4, .int 0), (3, .int (-9)), (0, .ref (xo X)), (1, .int a1), (2, .int a2)]) Γ dX0_where_26 (by decide) rfl ?_
      replace h := b1 h
      obtain ⟨x8, eLL5, h⟩ := h
      have hXL5 : At G 5 σ [(3, .int x8)] [] 123 := by
        refine A_iload_n Γ dX0_where_123 0 rfl ?_
        obtain rfl := inj1 h
        exact hret _ _ dX0_where_124
      replace eLL5 := lq2_ex eLL5
      obtain ⟨nL5, eLL5⟩ := eLL5
      have hLL5 : ∀ (nL5 : Nat) (x6 : Int32) (x7 : Int32), lpf2 (c_where_L5 σ a1 a2) nL5 x6 x7 = some x8 → At G 5 σ [(0, .ref (xo X)), (1, .int a1), (2, .int a2), (3, .int x6), (4, .int x7)] [] 28 := by
        intro nL5
        induction nL5 with
        | zero => intro x6 x7 eL5; exact (lpf2_0 eL5).elim
        | succ nL5 ihL5 =>
          intro x6 x7 eL5
          replace eL5 := lpf2_s eL5
          obtain ⟨qL5, eL5, hqL5⟩ := eL5
          rw [c_where_L5] at eL5
          refine A_iload Γ dX0_where_28 4 rfl ?_
          refine A_aload_n Γ dX0_where_30 0 rfl ?_
          refine g0_22 Γ Ξ dX0_where_31 ?_
          refine A_icmp_ge (t := 123) Γ dX0_where_34 (by decide) (fun c => ?_) (fun c => ?_)
          · replace eL5 := it_t c eL5
            obtain rfl := pr1 (lpx2 eL5 hqL5)
            exact A_sub [3] rfl hXL5
          · replace eL5 := it_f c eL5
            refine A_aload_n Γ dX0_where_37 0 rfl ?_
            refine g0_23 Γ Ξ dX0_where_38 ?_
            refine A_iload Γ dX0_where_41 4 rfl ?_
            replace eL5 := b1 eL5
            obtain ⟨v9, e10, eL5⟩ := eL5
            refine r0_23 Γ Ξ e10 dX0_where_43 ?_
            refine A_iload_n Γ dX0_where_44 1 rfl ?_
            replace eL5 := b1 eL5
            obtain ⟨x12, eJ11, eL5⟩ := eL5
            have hJJ11 : At G 5 σ [(0, .ref (xo X)), (1, .int a1), (2, .int a2), (3, .int x12), (4, .int x7)] [] 117 := by
              refine A_iinc (v := x7 + 1) (lv' := [(4, .int (x7 + 1)), (0, .ref (xo X)), (1, .int a1), (2, .int a2), (3, .int x12)]) Γ dX0_where_117 4 rfl rfl (by decide) rfl ?_
              refine A_goto (t := 28) Γ dX0_where_120 (by decide) ?_
              exact A_sub [1, 2, 3, 4, 0] rfl (ihL5 _ _ (lpc2 eL5 hqL5))
            refine A_icmp_ne (t := 117) Γ dX0_where_45 (by decide) (fun c => ?_) (fun c => ?_)
            · replace eJ11 := it_f c eJ11
              obtain rfl := inj1 eJ11
              exact A_sub [0, 1, 2, 3, 4] rfl hJJ11
            · replace eJ11 := it_t c eJ11
              refine A_aload_n Γ dX0_where_48 0 rfl ?_
              refine g0_24 Γ Ξ dX0_where_49 ?_
              refine A_iload Γ dX0_where_52 4 rfl ?_
              replace eJ11 := b1 eJ11
              obtain ⟨v13, e14, eJ11⟩ := eJ11
              refine r0_24 Γ Ξ e14 dX0_where_54 ?_
              refine A_iconst (v := 3) Γ dX0_where_55 (by decide) ?_
              refine A_icmp_ge (t := 117) Γ dX0_where_56 (by decide) (fun c => ?_) (fun c => ?_)
              · replace eJ11 := it_t c eJ11
                obtain rfl := inj1 eJ11
                exact A_sub [0, 1, 2, 3, 4] rfl hJJ11
              · replace eJ11 := it_f c eJ11
                refine A_aload_n Γ dX0_where_59 0 rfl ?_
                refine g0_25 Γ Ξ dX0_where_60 ?_
                refine A_iload Γ dX0_where_63 4 rfl ?_
                replace eJ11 := b1 eJ11
                obtain ⟨v15, e16, eJ11⟩ := eJ11
                refine r0_25 Γ Ξ e16 dX0_where_65 ?_
                refine A_iload_n Γ dX0_where_66 2 rfl ?_
                refine A_icmp_gt (t := 117) Γ dX0_where_67 (by decide) (fun c => ?_) (fun c => ?_)
                · replace eJ11 := it_t c eJ11
                  obtain rfl := inj1 eJ11
                  exact A_sub [0, 1, 2, 3, 4] rfl hJJ11
                · replace eJ11 := it_f c eJ11
                  refine A_aload_n Γ dX0_where_70 0 rfl ?_
                  refine g0_24 Γ Ξ dX0_where_71 ?_
                  refine A_iload Γ dX0_where_74 4 rfl ?_
                  replace eJ11 := b1 eJ11
                  obtain ⟨v17, e18, eJ11⟩ := eJ11
                  refine r0_24 Γ Ξ e18 dX0_where_76 ?_
                  replace eJ11 := b1 eJ11
                  obtain ⟨x20, eJ19, eJ11⟩ := eJ11
                  have hJJ19 : At G 5 σ [(0, .ref (xo X)), (1, .int a1), (2, .int a2), (4, .int x7)] [.int x20] 116 := by
                    refine A_istore_n (lv' := [(3, .int x20), (0, .ref (xo X)), (1, .int a1), (2, .int a2), (4, .int x7)]) Γ dX0_where_116 (by decide) rfl ?_
                    obtain rfl := inj1 eJ11
                    exact A_sub [1, 2, 3, 0, 4] rfl hJJ11
                  refine A_if_ne (t := 90) Γ dX0_where_77 (by decide) (fun c => ?_) (fun c => ?_)
                  · replace eJ19 := it_f c eJ19
                    refine A_aload_n Γ dX0_where_90 0 rfl ?_
                    refine g0_24 Γ Ξ dX0_where_91 ?_
                    refine A_iload Γ dX0_where_94 4 rfl ?_
                    replace eJ19 := b1 eJ19
                    obtain ⟨v21, e22, eJ19⟩ := eJ19
                    refine r0_24 Γ Ξ e22 dX0_where_96 ?_
                    refine A_iconst (v := 1) Γ dX0_where_97 (by decide) ?_
                    refine A_icmp_ne (t := 114) Γ dX0_where_98 (by decide) (fun c => ?_) (fun c => ?_)
                    · replace eJ19 := it_f c eJ19
                      refine A_bipush (v := 20) Γ dX0_where_114 (by decide) ?_
                      obtain rfl := inj1 eJ19
                      exact A_sub [0, 1, 2, 4] rfl hJJ19
                    · replace eJ19 := it_t c eJ19
                      refine A_bipush (v := 10) Γ dX0_where_101 (by decide) ?_
                      refine A_aload_n Γ dX0_where_103 0 rfl ?_
                      refine g0_26 Γ Ξ dX0_where_104 ?_
                      refine A_iload Γ dX0_where_107 4 rfl ?_
                      replace eJ19 := b1 eJ19
                      obtain ⟨v23, e24, eJ19⟩ := eJ19
                      refine r0_26 Γ Ξ e24 dX0_where_109 ?_
                      refine A_iadd Γ dX0_where_110 ?_
                      refine A_goto (t := 116) Γ dX0_where_111 (by decide) ?_
                      obtain rfl := inj1 eJ19
                      exact A_sub [0, 1, 2, 4] rfl hJJ19
                  · replace eJ19 := it_t c eJ19
                    refine A_aload_n Γ dX0_where_80 0 rfl ?_
                    refine g0_26 Γ Ξ dX0_where_81 ?_
                    refine A_iload Γ dX0_where_84 4 rfl ?_
                    replace eJ19 := b1 eJ19
                    obtain ⟨v25, e26, eJ19⟩ := eJ19
                    refine r0_26 Γ Ξ e26 dX0_where_86 ?_
                    refine A_goto (t := 116) Γ dX0_where_87 (by decide) ?_
                    obtain rfl := inj1 eJ19
                    exact A_sub [0, 1, 2, 4] rfl hJJ19
      exact A_sub [2, 3, 4, 1, 0] rfl (hLL5 _ _ _ eLL5)
    · replace h := it_t c h
      refine A_iconst (v := (-1)) Γ dX0_where_20 (by decide) ?_
      obtain rfl := inj1 h
      exact hret _ _ dX0_where_21
theorem mtX0_where (l : Launch) (X : Xw) {σ : St} {a1 : Int32} {a2 : Int32} {r : Int32} (h : c_where σ a1 a2 = some r) : MetZ 0 l X yX0_where cX0_where 5 (some .int) 2 43 [.ref (xo X), .int a1, .int a2] σ (some (.int r)) σ := MetZ.ofAt (by decide) (Nat.le_of_ble_eq_true rfl) (fun G _ Γ Ξ hR hret => wkX0_where Γ Ξ hR h hret)

set_option maxHeartbeats 4000000 in
set_option maxRecDepth 100000 in
theorem wkX0_isDay {G : Gx} {X : Xw} {σ : St} {a0 : Int32} (Γ : Ok G RX0 cX0_isDay 1) (hkp : ∀ (H H1 : Heap), gP G σ H → (∀ q : Nat, q < H.size → H1[q]? = H[q]?) → gP G σ H1) (hRm : Rm G 1 22) {r : Int32} (h : c_isDay a0 = some r) (hret : ∀ (pc : Nat) (lv : List (Nat × Value)), retIs cX0_isDay (some .boolean) (some (.int r)) pc → At G 1 σ lv [.int r] pc) : At G 1 σ [(0, .int a0)] [] 0 := by
  rw [c_isDay] at h
  refine A_iload_n Γ dX0_isDay_0 0 rfl ?_
  refine A_iconst (v := 0) Γ dX0_isDay_1 (by decide) ?_
  refine A_bipush (v := 69) Γ dX0_isDay_2 (by decide) ?_
  replace h := b1 h
  obtain ⟨v2, e1, h⟩ := h
  refine kX0_X0in Γ hkp hRm (by decide) (by decide) e1 (Nat.le_of_ble_eq_true rfl) dX0_isDay_4 ?_
  replace h := b1 h
  obtain ⟨v4, e3, h⟩ := h
  obtain ⟨rfl, hze3⟩ := bZ_in e3
  obtain rfl := inj1 h
  exact hret _ _ ⟨dX0_isDay_7, hze3⟩
theorem mtX0_isDay (l : Launch) {a0 : Int32} {r : Int32} (h : c_isDay a0 = some r) : MetS l yX0_isDay cX0_isDay 1 (some .boolean) 1 22 [.int a0] (some (.int r)) := MetS.ofAt ((fun _ => 0), (fun _ => 0), (fun _ _ => 0), (fun _ _ => 0), fun _ => none) (by decide) (Nat.le_of_ble_eq_true rfl) (fun G _ Γ hR hp hret => wkX0_isDay (X := (0, (fun _ => 0), (fun _ => 0), (fun _ _ => 0), (fun _ => 0), (fun _ => True))) Γ hp hR h hret)
theorem kX0_X0isDay {G : Gx} {cc : ByteArray} {nL pc F LO : Nat} {σ : St} {lv : List (Nat × Value)} {st : List Value} (Γ : Ok G RX0 cc nL) (hkp : ∀ (H H1 : Heap), gP G σ H → (∀ q : Nat, q < H.size → H1[q]? = H[q]?) → gP G σ H1) {a0 : Int32} {r : Int32} (hRm : Rm G F LO) (hf : 1 + 1 ≤ F) (hlo : 8 + (1 + 11) + 22 ≤ LO) (h : c_isDay a0 = some r) (hW : (st.map fun v => v.category).sum ≤ 8) (d : decode cc pc = .ok (.invokestatic 330, 3)) (kk : At G nL σ lv (.int r :: st) (pc + 3)) : At G nL σ lv (.int a0 :: st) pc := A_callS Γ hkp rfl (mtX0_isDay (gl G) h) (lw_S q812 q813 q63 q814) (n := 1) (by decide +kernel) (rm_ok hRm hf hlo) (rm_k hRm) rfl rfl hW d kk
set_option maxHeartbeats 4000000 in
set_option maxRecDepth 100000 in
theorem wkX0_terms {G : Gx} {X : Xw} {σ σ' : St} {a1 : Int32} {a2 : Int32} (Γ : Ok G RX0 cX0_terms 3) (Ξ : OkX 0 G X) (hRm : Rm G 3 70) {r : Int32} (h : c_terms σ a1 a2 = some (r, σ')) (hret : ∀ (pc : Nat) (lv : List (Nat × Value)), retIs cX0_terms (some .int) (some (.int r)) pc → At G 3 σ' lv [.int r] pc) : At G 3 σ [(0, .ref (xo X)), (1, .int a1), (2, .int a2)] [] 0 := by
  rw [c_terms] at h
  refine A_iload_n Γ dX0_terms_0 1 rfl ?_
  replace h := b1 h
  obtain ⟨v2, e1, h⟩ := h
  refine kX0_X0isText Γ (kpX Ξ) hRm (by decide) (by decide) e1 (Nat.le_of_ble_eq_true rfl) dX0_terms_1 ?_
  refine A_if_eq (t := 14) Γ dX0_terms_4 (by decide) (fun c => ?_) (fun c => ?_)
  · replace h := it_t c h
    refine A_iconst (v := (-1)) Γ dX0_terms_14 (by decide) ?_
    obtain ⟨rfl, rfl⟩ := inj2 h
    exact hret _ _ dX0_terms_15
  · replace h := it_f c h
    refine A_iload_n Γ dX0_terms_7 2 rfl ?_
    replace h := b1 h
    obtain ⟨v4, e3, h⟩ := h
    refine kX0_X0isDay Γ (kpX Ξ) hRm (by decide) (by decide) e3 (Nat.le_of_ble_eq_true rfl) dX0_terms_8 ?_
    refine A_if_ne (t := 16) Γ dX0_terms_11 (by decide) (fun c => ?_) (fun c => ?_)
    · replace h := it_f c h
      refine A_aload_n Γ dX0_terms_16 0 rfl ?_
      refine g0_33 Γ Ξ dX0_terms_17 ?_
      refine A_bipush (v := 20) Γ dX0_terms_20 (by decide) ?_
      refine A_icmp_ne (t := 28) Γ dX0_terms_22 (by decide) (fun c => ?_) (fun c => ?_)
      · replace h := it_f c h
        refine A_aload_n Γ dX0_terms_28 0 rfl ?_
        refine g0_6 Γ Ξ dX0_terms_29 ?_
        refine A_iload_n Γ dX0_terms_32 1 rfl ?_
        replace h := b1 h
        obtain ⟨k5, e6, h⟩ := h
        refine A_texts Γ Ξ e6 dX0_terms_33 ?_
        refine A_ifnonnull (t := 43) Γ dX0_terms_34 (by decide) (fun cn7 => ?_) (fun cn7 => ?_)
        · replace h := it_t cn7 h
          refine A_aload_n Γ dX0_terms_43 0 rfl ?_
          refine A_aload_n Γ dX0_terms_44 0 rfl ?_
          refine g0_6 Γ Ξ dX0_terms_45 ?_
          refine A_iload_n Γ dX0_terms_48 1 rfl ?_
          replace h := b1 h
          obtain ⟨k8, e9, h⟩ := h
          refine A_textsD Γ Ξ e9 dX0_terms_49 ?_
          replace h := b2 h
          obtain ⟨v11, σ12, e10, h⟩ := h
          refine kX0_X0read Γ Ξ hRm (by decide) (by decide) (kByte_textD e9) e10 (Nat.le_of_ble_eq_true rfl) dX0_terms_50 ?_
          refine A_bipush (v := (-9)) Γ dX0_terms_53 (by decide) ?_
          refine A_icmp_eq (t := 61) Γ dX0_terms_55 (by decide) (fun c => ?_) (fun c => ?_)
          · replace h := it_t c h
            refine A_aload_n Γ dX0_terms_61 0 rfl ?_
            refine g0_34 Γ Ξ dX0_terms_62 ?_
            refine A_aload_n Γ dX0_terms_65 0 rfl ?_
            refine g0_33 Γ Ξ dX0_terms_66 ?_
            refine A_aload_n Γ dX0_terms_69 0 rfl ?_
            refine g0_11 Γ Ξ dX0_terms_70 ?_
            refine A_sipush (v := 1440) Γ dX0_terms_73 (by decide) ?_
            refine A_idiv Γ dX0_terms_76 (by decide) ?_
            replace h := b1 h
            obtain ⟨σ13, e14, h⟩ := h
            refine w0_34 Γ Ξ e14 dX0_terms_77 ?_
            refine A_aload_n Γ dX0_terms_78 0 rfl ?_
            refine g0_35 Γ Ξ dX0_terms_79 ?_
            refine A_aload_n Γ dX0_terms_82 0 rfl ?_
            refine g0_33 Γ Ξ dX0_terms_83 ?_
            refine A_iload_n Γ dX0_terms_86 2 rfl ?_
            replace h := b1 h
            obtain ⟨σ15, e16, h⟩ := h
            refine w0_35 Γ Ξ e16 dX0_terms_87 ?_
            refine A_aload_n Γ dX0_terms_88 0 rfl ?_
            refine g0_36 Γ Ξ dX0_terms_89 ?_
            refine A_aload_n Γ dX0_terms_92 0 rfl ?_
            refine g0_33 Γ Ξ dX0_terms_93 ?_
            refine A_aload_n Γ dX0_terms_96 0 rfl ?_
            refine g0_7 Γ Ξ dX0_terms_97 ?_
            replace h := b1 h
            obtain ⟨σ17, e18, h⟩ := h
            refine w0_36 Γ Ξ e18 dX0_terms_100 ?_
            refine A_aload_n Γ dX0_terms_101 0 rfl ?_
            refine g0_8 Γ Ξ dX0_terms_102 ?_
            refine A_iconst (v := 0) Γ dX0_terms_105 (by decide) ?_
            refine A_aload_n Γ dX0_terms_106 0 rfl ?_
            refine g0_37 Γ Ξ dX0_terms_107 ?_
            refine A_bipush (v := 20) Γ dX0_terms_110 (by decide) ?_
            refine A_aload_n Γ dX0_terms_112 0 rfl ?_
            refine g0_33 Γ Ξ dX0_terms_113 ?_
            refine A_imul Γ dX0_terms_116 ?_
            refine A_aload_n Γ dX0_terms_117 0 rfl ?_
            refine g0_7 Γ Ξ dX0_terms_118 ?_
            replace h := b1 h
            obtain ⟨σ19, e20, h⟩ := h
            refine A_copy Γ Ξ (by decide) rfl rfl (by decide) rfl rfl e20 (rm_cp hRm (by decide) (by decide) (by decide)) dX0_terms_121 ?_
            refine A_aload_n Γ dX0_terms_124 0 rfl ?_
            refine g0_9 Γ Ξ dX0_terms_125 ?_
            refine A_iconst (v := 0) Γ dX0_terms_128 (by decide) ?_
            refine A_aload_n Γ dX0_terms_129 0 rfl ?_
            refine g0_38 Γ Ξ dX0_terms_130 ?_
            refine A_bipush (v := 20) Γ dX0_terms_133 (by decide) ?_
            refine A_aload_n Γ dX0_terms_135 0 rfl ?_
            refine g0_33 Γ Ξ dX0_terms_136 ?_
            refine A_imul Γ dX0_terms_139 ?_
            refine A_aload_n Γ dX0_terms_140 0 rfl ?_
            refine g0_7 Γ Ξ dX0_terms_141 ?_
            replace h := b1 h
            obtain ⟨σ21, e22, h⟩ := h
            refine A_copy Γ Ξ (by decide) rfl rfl (by decide) rfl rfl e22 (rm_cp hRm (by decide) (by decide) (by decide)) dX0_terms_144 ?_
            refine A_aload_n Γ dX0_terms_147 0 rfl ?_
            refine g0_10 Γ Ξ dX0_terms_148 ?_
            refine A_iconst (v := 0) Γ dX0_terms_151 (by decide) ?_
            refine A_aload_n Γ dX0_terms_152 0 rfl ?_
            refine g0_39 Γ Ξ dX0_terms_153 ?_
            refine A_bipush (v := 20) Γ dX0_terms_156 (by decide) ?_
            refine A_aload_n Γ dX0_terms_158 0 rfl ?_
            refine g0_33 Γ Ξ dX0_terms_159 ?_
            refine A_imul Γ dX0_terms_162 ?_
            refine A_aload_n Γ dX0_terms_163 0 rfl ?_
            refine g0_7 Γ Ξ dX0_terms_164 ?_
            replace h := b1 h
            obtain ⟨σ23, e24, h⟩ := h
            refine A_copy Γ Ξ (by decide) rfl rfl (by decide) rfl rfl e24 (rm_cp hRm (by decide) (by decide) (by decide)) dX0_terms_167 ?_
            refine A_aload_n Γ dX0_terms_170 0 rfl ?_
            refine A_dup Γ dX0_terms_171 rfl ?_
            refine g0_33 Γ Ξ dX0_terms_172 ?_
            refine A_iconst (v := 1) Γ dX0_terms_175 (by decide) ?_
            refine A_iadd Γ dX0_terms_176 ?_
            refine p0_33 Γ Ξ dX0_terms_177 ?_
            refine A_aload_n Γ dX0_terms_180 0 rfl ?_
            refine g0_33 Γ Ξ dX0_terms_181 ?_
            refine A_iconst (v := 1) Γ dX0_terms_184 (by decide) ?_
            refine A_isub Γ dX0_terms_185 ?_
            obtain ⟨rfl, rfl⟩ := inj2 h
            exact hret _ _ dX0_terms_186
          · replace h := it_f c h
            refine A_bipush (v := (-4)) Γ dX0_terms_58 (by decide) ?_
            obtain ⟨rfl, rfl⟩ := inj2 h
            exact hret _ _ dX0_terms_60
        · replace h := it_f cn7 h
          refine A_aload_n Γ dX0_terms_37 0 rfl ?_
          refine A_iconst (v := 1) Γ dX0_terms_38 (by decide) ?_
          replace h := b2 h
          obtain ⟨v26, σ27, e25, h⟩ := h
          refine kX0_X0found Γ Ξ hRm (by decide) (by decide) e25 (Nat.le_of_ble_eq_true rfl) dX0_terms_39 ?_
          obtain ⟨rfl, rfl⟩ := inj2 h
          exact hret _ _ dX0_terms_42
      · replace h := it_t c h
        refine A_bipush (v := (-2)) Γ dX0_terms_25 (by decide) ?_
        obtain ⟨rfl, rfl⟩ := inj2 h
        exact hret _ _ dX0_terms_27
    · replace h := it_t c h
      refine A_iconst (v := (-1)) Γ dX0_terms_14 (by decide) ?_
      obtain ⟨rfl, rfl⟩ := inj2 h
      exact hret _ _ dX0_terms_15
theorem mtX0_terms (l : Launch) (X : Xw) {σ σ' : St} {a1 : Int32} {a2 : Int32} {r : Int32} (h : c_terms σ a1 a2 = some (r, σ')) : MetZ 0 l X yX0_terms cX0_terms 3 (some .int) 3 70 [.ref (xo X), .int a1, .int a2] σ (some (.int r)) σ' := MetZ.ofAt (by decide) (Nat.le_of_ble_eq_true rfl) (fun G _ Γ Ξ hR hret => wkX0_terms Γ Ξ hR h hret)

set_option maxHeartbeats 4000000 in
set_option maxRecDepth 100000 in
theorem wkX0_force {G : Gx} {X : Xw} {σ : St} {a1 : Int32} {a2 : Int32} {a3 : Int32} {a4 : Int32} (Γ : Ok G RX0 cX0_force 5) (Ξ : OkX 0 G X) (hRm : Rm G 2 42) {r : Int32} (h : c_force σ a1 a2 a3 a4 = some r) (hret : ∀ (pc : Nat) (lv : List (Nat × Value)), retIs cX0_force (some .int) (some (.int r)) pc → At G 5 σ lv [.int r] pc) : At G 5 σ [(0, .ref (xo X)), (1, .int a1), (2, .int a2), (3, .int a3), (4, .int a4)] [] 0 := by
  rw [c_force] at h
  refine A_iload_n Γ dX0_force_0 1 rfl ?_
  refine A_iconst (v := 0) Γ dX0_force_1 (by decide) ?_
  refine A_iconst (v := 3) Γ dX0_force_2 (by decide) ?_
  replace h := b1 h
  obtain ⟨v2, e1, h⟩ := h
  refine kX0_X0in Γ (kpX Ξ) hRm (by decide) (by decide) e1 (Nat.le_of_ble_eq_true rfl) dX0_force_3 ?_
  replace h := b1 h
  obtain ⟨x4, eJ3, h⟩ := h
  have hJJ3 : At G 5 σ [] [.int x4] 49 := by
    obtain rfl := inj1 h
    exact hret _ _ dX0_force_49
  refine A_if_eq (t := 48) Γ dX0_force_6 (by decide) (fun c => ?_) (fun c => ?_)
  · replace eJ3 := it_t c eJ3
    refine A_iconst (v := (-1)) Γ dX0_force_48 (by decide) ?_
    obtain rfl := inj1 eJ3
    exact A_sub [] rfl hJJ3
  · replace eJ3 := it_f c eJ3
    refine A_iload_n Γ dX0_force_9 1 rfl ?_
    refine A_iconst (v := 1) Γ dX0_force_10 (by decide) ?_
    refine A_icmp_gt (t := 21) Γ dX0_force_11 (by decide) (fun c => ?_) (fun c => ?_)
    · replace eJ3 := it_t c eJ3
      refine A_iload_n Γ dX0_force_21 3 rfl ?_
      replace eJ3 := b1 eJ3
      obtain ⟨v6, e5, eJ3⟩ := eJ3
      refine kX0_X0isDay Γ (kpX Ξ) hRm (by decide) (by decide) e5 (Nat.le_of_ble_eq_true rfl) dX0_force_22 ?_
      refine A_if_eq (t := 48) Γ dX0_force_25 (by decide) (fun c => ?_) (fun c => ?_)
      · replace eJ3 := it_t c eJ3
        refine A_iconst (v := (-1)) Γ dX0_force_48 (by decide) ?_
        obtain rfl := inj1 eJ3
        exact A_sub [] rfl hJJ3
      · replace eJ3 := it_f c eJ3
        refine A_iload Γ dX0_force_28 4 rfl ?_
        replace eJ3 := b1 eJ3
        obtain ⟨v8, e7, eJ3⟩ := eJ3
        refine kX0_X0isDay Γ (kpX Ξ) hRm (by decide) (by decide) e7 (Nat.le_of_ble_eq_true rfl) dX0_force_30 ?_
        refine A_if_eq (t := 48) Γ dX0_force_33 (by decide) (fun c => ?_) (fun c => ?_)
        · replace eJ3 := it_t c eJ3
          refine A_iconst (v := (-1)) Γ dX0_force_48 (by decide) ?_
          obtain rfl := inj1 eJ3
          exact A_sub [] rfl hJJ3
        · replace eJ3 := it_f c eJ3
          refine A_aload_n Γ dX0_force_36 0 rfl ?_
          refine A_iload_n Γ dX0_force_37 1 rfl ?_
          refine A_iload_n Γ dX0_force_38 2 rfl ?_
          refine A_iload_n Γ dX0_force_39 3 rfl ?_
          refine A_iload Γ dX0_force_40 4 rfl ?_
          replace eJ3 := b1 eJ3
          obtain ⟨v10, e9, eJ3⟩ := eJ3
          refine kX0_X0forceOf Γ Ξ hRm (by decide) (by decide) e9 (Nat.le_of_ble_eq_true rfl) dX0_force_42 ?_
          refine A_goto (t := 49) Γ dX0_force_45 (by decide) ?_
          obtain rfl := inj1 eJ3
          exact A_sub [] rfl hJJ3
    · replace eJ3 := it_f c eJ3
      refine A_iload_n Γ dX0_force_14 2 rfl ?_
      replace eJ3 := b1 eJ3
      obtain ⟨v12, e11, eJ3⟩ := eJ3
      refine kX0_X0isYard Γ (kpX Ξ) hRm (by decide) (by decide) e11 (Nat.le_of_ble_eq_true rfl) dX0_force_15 ?_
      refine A_if_eq (t := 48) Γ dX0_force_18 (by decide) (fun c => ?_) (fun c => ?_)
      · replace eJ3 := it_t c eJ3
        refine A_iconst (v := (-1)) Γ dX0_force_48 (by decide) ?_
        obtain rfl := inj1 eJ3
        exact A_sub [] rfl hJJ3
      · replace eJ3 := it_f c eJ3
        refine A_iload_n Γ dX0_force_21 3 rfl ?_
        replace eJ3 := b1 eJ3
        obtain ⟨v14, e13, eJ3⟩ := eJ3
        refine kX0_X0isDay Γ (kpX Ξ) hRm (by decide) (by decide) e13 (Nat.le_of_ble_eq_true rfl) dX0_force_22 ?_
        refine A_if_eq (t := 48) Γ dX0_force_25 (by decide) (fun c => ?_) (fun c => ?_)
        · replace eJ3 := it_t c eJ3
          refine A_iconst (v := (-1)) Γ dX0_force_48 (by decide) ?_
          obtain rfl := inj1 eJ3
          exact A_sub [] rfl hJJ3
        · replace eJ3 := it_f c eJ3
          refine A_iload Γ dX0_force_28 4 rfl ?_
          replace eJ3 := b1 eJ3
          obtain ⟨v16, e15, eJ3⟩ := eJ3
          refine kX0_X0isDay Γ (kpX Ξ) hRm (by decide) (by decide) e15 (Nat.le_of_ble_eq_true rfl) dX0_force_30 ?_
          refine A_if_eq (t := 48) Γ dX0_force_33 (by decide) (fun c => ?_) (fun c => ?_)
          · replace eJ3 := it_t c eJ3
            refine A_iconst (v := (-1)) Γ dX0_force_48 (by decide) ?_
            obtain rfl := inj1 eJ3
            exact A_sub [] rfl hJJ3
          · replace eJ3 := it_f c eJ3
            refine A_aload_n Γ dX0_force_36 0 rfl ?_
            refine A_iload_n Γ dX0_force_37 1 rfl ?_
            refine A_iload_n Γ dX0_force_38 2 rfl ?_
            refine A_iload_n Γ dX0_force_39 3 rfl ?_
            refine A_iload Γ dX0_force_40 4 rfl ?_
            replace eJ3 := b1 eJ3
            obtain ⟨v18, e17, eJ3⟩ := eJ3
            refine kX0_X0forceOf Γ Ξ hRm (by decide) (by decide) e17 (Nat.le_of_ble_eq_true rfl) dX0_force_42 ?_
            refine A_goto (t := 49) Γ dX0_force_45 (by decide) ?_
            obtain rfl := inj1 eJ3
            exact A_sub [] rfl hJJ3
theorem mtX0_force (l : Launch) (X : Xw) {σ : St} {a1 : Int32} {a2 : Int32} {a3 : Int32} {a4 : Int32} {r : Int32} (h : c_force σ a1 a2 a3 a4 = some r) : MetZ 0 l X yX0_force cX0_force 5 (some .int) 2 42 [.ref (xo X), .int a1, .int a2, .int a3, .int a4] σ (some (.int r)) σ := MetZ.ofAt (by decide) (Nat.le_of_ble_eq_true rfl) (fun G _ Γ Ξ hR hret => wkX0_force Γ Ξ hR h hret)

set_option maxHeartbeats 4000000 in
set_option maxRecDepth 100000 in
theorem wkX0_pence {G : Gx} {X : Xw} {σ : St}  (Γ : Ok G RX0 cX0_pence 1) (Ξ : OkX 0 G X) (hRm : Rm G 0 0) {r : Int64} (h : c_pence σ = some r) (hret : ∀ (pc : Nat) (lv : List (Nat × Value)), retIs cX0_pence (some .long) (some (.long r)) pc → At G 1 σ lv [.long r] pc) : At G 1 σ [(0, .ref (xo X))] [] 0 := by
  rw [c_pence] at h
  refine A_aload_n Γ dX0_pence_0 0 rfl ?_
  refine g0_40 Γ Ξ dX0_pence_1 ?_
  obtain rfl := inj1 h
  exact hret _ _ dX0_pence_4
theorem mtX0_pence (l : Launch) (X : Xw) {σ : St}  {r : Int64} (h : c_pence σ = some r) : MetZ 0 l X yX0_pence cX0_pence 1 (some .long) 0 0 [.ref (xo X)] σ (some (.long r)) σ := MetZ.ofAt (by decide) (Nat.le_of_ble_eq_true rfl) (fun G _ Γ Ξ hR hret => wkX0_pence Γ Ξ hR h hret)

set_option maxHeartbeats 4000000 in
set_option maxRecDepth 100000 in
theorem wkX0_leftAt {G : Gx} {X : Xw} {σ : St} {a1 : Int32} (Γ : Ok G RX0 cX0_leftAt 3) (Ξ : OkX 0 G X) (hRm : Rm G 0 0) {r : Int32} (h : c_leftAt σ a1 = some r) (hret : ∀ (pc : Nat) (lv : List (Nat × Value)), retIs cX0_leftAt (some .int) (some (.int r)) pc → At G 3 σ lv [.int r] pc) : At G 3 σ [(0, .ref (xo X)), (1, .int a1)] [] 0 := by
  rw [c_leftAt] at h
  refine A_iload_n Γ dX0_leftAt_0 1 rfl ?_
  refine A_iconst (v := 1) Γ dX0_leftAt_1 (by decide) ?_
  refine A_iadd Γ dX0_leftAt_2 ?_
  refine A_istore_n (lv' := [(2, .int (a1 + 1)), (0, .ref (xo X)), (1, .int a1)]) Γ dX0_leftAt_3 (by decide) rfl ?_
  replace h := bR1 h
  obtain ⟨qqL1, eLL1, hsL1⟩ := h
  have hXL1 : ∀ (u3 : Unit), qqL1 = .inl u3 → At G 3 σ [(0, .ref (xo X))] [] 60 := by
    intro u3 e0
    rcases hsL1 with ⟨u3z, e1, h⟩ | ⟨r1, e1, _⟩
    · cases e0.symm.trans e1
      refine A_aload_n Γ dX0_leftAt_60 0 rfl ?_
      refine g0_11 Γ Ξ dX0_leftAt_61 ?_
      obtain rfl := inj1 h
      exact hret _ _ dX0_leftAt_64
    · cases e0.symm.trans e1
  have hRtL1 : ∀ w : Int32, qqL1 = .inr w → some w = some r := by
    intro w e0
    rcases hsL1 with ⟨u3z, e1, _⟩ | ⟨r1, e1, h9⟩
    · cases e0.symm.trans e1
    · cases e0.symm.trans e1; exact h9
  replace eLL1 := lq1_ex eLL1
  obtain ⟨nL1, eLL1⟩ := eLL1
  have hLL1 : ∀ (nL1 : Nat) (x2 : Int32), lpf1 (c_leftAt_L1 σ a1) nL1 x2 = some qqL1 → At G 3 σ [(0, .ref (xo X)), (1, .int a1), (2, .int x2)] [] 4 := by
    intro nL1
    induction nL1 with
    | zero => intro x2 eL1; exact (lpf1_0 eL1).elim
    | succ nL1 ihL1 =>
      intro x2 eL1
      replace eL1 := lpf1_s eL1
      obtain ⟨qL1, eL1, hqL1⟩ := eL1
      rw [c_leftAt_L1] at eL1
      refine A_iload_n Γ dX0_leftAt_4 2 rfl ?_
      refine A_aload_n Γ dX0_leftAt_5 0 rfl ?_
      refine g0_22 Γ Ξ dX0_leftAt_6 ?_
      refine A_icmp_ge (t := 60) Γ dX0_leftAt_9 (by decide) (fun c => ?_) (fun c => ?_)
      · replace eL1 := it_t c eL1
        exact A_sub [0] rfl (hXL1 _ (lpx1 eL1 hqL1).symm)
      · replace eL1 := it_f c eL1
        refine A_aload_n Γ dX0_leftAt_12 0 rfl ?_
        refine g0_23 Γ Ξ dX0_leftAt_13 ?_
        refine A_iload_n Γ dX0_leftAt_16 2 rfl ?_
        replace eL1 := b1 eL1
        obtain ⟨v4, e5, eL1⟩ := eL1
        refine r0_23 Γ Ξ e5 dX0_leftAt_17 ?_
        refine A_aload_n Γ dX0_leftAt_18 0 rfl ?_
        refine g0_23 Γ Ξ dX0_leftAt_19 ?_
        refine A_iload_n Γ dX0_leftAt_22 1 rfl ?_
        replace eL1 := b1 eL1
        obtain ⟨v6, e7, eL1⟩ := eL1
        refine r0_23 Γ Ξ e7 dX0_leftAt_23 ?_
        refine A_icmp_ne (t := 54) Γ dX0_leftAt_24 (by decide) (fun c => ?_) (fun c => ?_)
        · replace eL1 := it_f c eL1
          refine A_iinc (v := x2 + 1) (lv' := [(2, .int (x2 + 1)), (0, .ref (xo X)), (1, .int a1)]) Γ dX0_leftAt_54 2 rfl rfl (by decide) rfl ?_
          refine A_goto (t := 4) Γ dX0_leftAt_57 (by decide) ?_
          exact A_sub [1, 2, 0] rfl (ihL1 _ (lpc1 eL1 hqL1))
        · replace eL1 := it_t c eL1
          refine A_aload_n Γ dX0_leftAt_27 0 rfl ?_
          refine g0_24 Γ Ξ dX0_leftAt_28 ?_
          refine A_iload_n Γ dX0_leftAt_31 2 rfl ?_
          replace eL1 := b1 eL1
          obtain ⟨v8, e9, eL1⟩ := eL1
          refine r0_24 Γ Ξ e9 dX0_leftAt_32 ?_
          refine A_iconst (v := 1) Γ dX0_leftAt_33 (by decide) ?_
          refine A_icmp_eq (t := 47) Γ dX0_leftAt_34 (by decide) (fun c => ?_) (fun c => ?_)
          · replace eL1 := it_t c eL1
            refine A_aload_n Γ dX0_leftAt_47 0 rfl ?_
            refine g0_25 Γ Ξ dX0_leftAt_48 ?_
            refine A_iload_n Γ dX0_leftAt_51 2 rfl ?_
            replace eL1 := b1 eL1
            obtain ⟨v10, e11, eL1⟩ := eL1
            refine r0_25 Γ Ξ e11 dX0_leftAt_52 ?_
            have rL1 := hRtL1 _ (lpx1 eL1 hqL1).symm
            obtain rfl := inj1 rL1
            exact hret _ _ dX0_leftAt_53
          · replace eL1 := it_f c eL1
            refine A_aload_n Γ dX0_leftAt_37 0 rfl ?_
            refine g0_24 Γ Ξ dX0_leftAt_38 ?_
            refine A_iload_n Γ dX0_leftAt_41 2 rfl ?_
            replace eL1 := b1 eL1
            obtain ⟨v12, e13, eL1⟩ := eL1
            refine r0_24 Γ Ξ e13 dX0_leftAt_42 ?_
            refine A_iconst (v := 2) Γ dX0_leftAt_43 (by decide) ?_
            refine A_icmp_ne (t := 54) Γ dX0_leftAt_44 (by decide) (fun c => ?_) (fun c => ?_)
            · replace eL1 := it_f c eL1
              refine A_iinc (v := x2 + 1) (lv' := [(2, .int (x2 + 1)), (0, .ref (xo X)), (1, .int a1)]) Γ dX0_leftAt_54 2 rfl rfl (by decide) rfl ?_
              refine A_goto (t := 4) Γ dX0_leftAt_57 (by decide) ?_
              exact A_sub [1, 2, 0] rfl (ihL1 _ (lpc1 eL1 hqL1))
            · replace eL1 := it_t c eL1
              refine A_aload_n Γ dX0_leftAt_47 0 rfl ?_
              refine g0_25 Γ Ξ dX0_leftAt_48 ?_
              refine A_iload_n Γ dX0_leftAt_51 2 rfl ?_
              replace eL1 := b1 eL1
              obtain ⟨v14, e15, eL1⟩ := eL1
              refine r0_25 Γ Ξ e15 dX0_leftAt_52 ?_
              have rL1 := hRtL1 _ (lpx1 eL1 hqL1).symm
              obtain rfl := inj1 rL1
              exact hret _ _ dX0_leftAt_53
  exact A_sub [1, 2, 0] rfl (hLL1 _ _ eLL1)
theorem mtX0_leftAt (l : Launch) (X : Xw) {σ : St} {a1 : Int32} {r : Int32} (h : c_leftAt σ a1 = some r) : MetZ 0 l X yX0_leftAt cX0_leftAt 3 (some .int) 0 0 [.ref (xo X), .int a1] σ (some (.int r)) σ := MetZ.ofAt (by decide) (Nat.le_of_ble_eq_true rfl) (fun G _ Γ Ξ hR hret => wkX0_leftAt Γ Ξ hR h hret)
theorem kX0_X0leftAt {G : Gx} {X : Xw} {cc : ByteArray} {nL pc F LO : Nat} {σ : St} {lv : List (Nat × Value)} {st : List Value} (Γ : Ok G RX0 cc nL) (Ξ : OkX 0 G X) {a1 : Int32} {r : Int32} (hRm : Rm G F LO) (hf : 0 + 1 ≤ F) (hlo : 8 + (3 + 11) + 0 ≤ LO) (h : c_leftAt σ a1 = some r) (hW : (st.map fun v => v.category).sum ≤ 8) (d : decode cc pc = .ok (.invokevirtual 339, 3)) (kk : At G nL σ lv (.int r :: st) (pc + 3)) : At G nL σ lv (.int a1 :: .ref (xo X) :: st) pc := A_callV Γ Ξ rfl rfl (mtX0_leftAt (gl G) X h) (lw_V q827 q829 qs14 q63 q830) (n := 1) (by decide +kernel) (rm_ok hRm hf hlo) (rm_k hRm) rfl rfl hW d kk
set_option maxHeartbeats 4000000 in
set_option maxRecDepth 100000 in
theorem wkX0_detention {G : Gx} {X : Xw} {σ σ' : St} {a1 : Int32} (Γ : Ok G RX0 cX0_detention 8) (Ξ : OkX 0 G X) (hRm : Rm G 2 43) {r : Int32} (h : c_detention σ a1 = some (r, σ')) (hret : ∀ (pc : Nat) (lv : List (Nat × Value)), retIs cX0_detention (some .int) (some (.int r)) pc → At G 8 σ' lv [.int r] pc) : At G 8 σ [(0, .ref (xo X)), (1, .int a1)] [] 0 := by
  rw [c_detention] at h
  refine A_aload_n Γ dX0_detention_0 0 rfl ?_
  refine A_iload_n Γ dX0_detention_1 1 rfl ?_
  replace h := b1 h
  obtain ⟨v2, e1, h⟩ := h
  refine kX0_X0isTrailer Γ Ξ hRm (by decide) (by decide) e1 (Nat.le_of_ble_eq_true rfl) dX0_detention_2 ?_
  refine A_if_ne (t := 10) Γ dX0_detention_5 (by decide) (fun c => ?_) (fun c => ?_)
  · replace h := it_f c h
    refine A_lconst (v := 0) Γ dX0_detention_10 (by decide) ?_
    refine A_lstore_n (lv' := [(2, .long 0), (0, .ref (xo X)), (1, .int a1)]) Γ dX0_detention_11 (by decide) rfl ?_
    refine A_iconst (v := 0) Γ dX0_detention_12 (by decide) ?_
    refine A_istore (lv' := [(4, .int 0), (2, .long 0), (0, .ref (xo X)), (1, .int a1)]) Γ dX0_detention_13 (by decide) rfl ?_
    refine A_iconst (v := 0) Γ dX0_detention_15 (by decide) ?_
    refine A_istore (lv' := [(5, .int 0), (4, .int 0), (2, .long 0), (0, .ref (xo X)), (1, .int a1)]) Γ dX0_detention_16 (by decide) rfl ?_
    replace h := b2 h
    obtain ⟨x7, x8, eLL3, h⟩ := h
    have hXL3 : At G 8 σ [(0, .ref (xo X)), (2, .long x7), (4, .int x8)] [] 138 := by
      refine A_aload_n Γ dX0_detention_138 0 rfl ?_
      refine A_lload_n Γ dX0_detention_139 1 rfl ?_
      refine p0_40 Γ Ξ dX0_detention_140 ?_
      refine A_iload Γ dX0_detention_143 2 rfl ?_
      obtain ⟨rfl, rfl⟩ := inj2 h
      exact hret _ _ dX0_detention_145
    replace eLL3 := lq3_ex eLL3
    obtain ⟨nL3, eLL3⟩ := eLL3
    have hLL3 : ∀ (nL3 : Nat) (x4 : Int64) (x5 : Int32) (x6 : Int32), lpf3 (c_detention_L3 σ a1) nL3 x4 x5 x6 = some (x7, x8) → At G 8 σ [(0, .ref (xo X)), (1, .int a1), (2, .long x4), (4, .int x5), (5, .int x6)] [] 18 := by
      intro nL3
      induction nL3 with
      | zero => intro x4 x5 x6 eL3; exact (lpf3_0 eL3).elim
      | succ nL3 ihL3 =>
        intro x4 x5 x6 eL3
        replace eL3 := lpf3_s eL3
        obtain ⟨qL3, eL3, hqL3⟩ := eL3
        rw [c_detention_L3] at eL3
        refine A_iload Γ dX0_detention_18 4 rfl ?_
        refine A_aload_n Γ dX0_detention_20 0 rfl ?_
        refine g0_22 Γ Ξ dX0_detention_21 ?_
        refine A_icmp_ge (t := 138) Γ dX0_detention_24 (by decide) (fun c => ?_) (fun c => ?_)
        · replace eL3 := it_t c eL3
          obtain ⟨rfl, rfl⟩ := pr2 (lpx3 eL3 hqL3)
          exact A_sub [0, 2, 3] rfl hXL3
        · replace eL3 := it_f c eL3
          refine A_aload_n Γ dX0_detention_27 0 rfl ?_
          refine g0_23 Γ Ξ dX0_detention_28 ?_
          refine A_iload Γ dX0_detention_31 4 rfl ?_
          replace eL3 := b1 eL3
          obtain ⟨v9, e10, eL3⟩ := eL3
          refine r0_23 Γ Ξ e10 dX0_detention_33 ?_
          refine A_iload_n Γ dX0_detention_34 1 rfl ?_
          replace eL3 := b2 eL3
          obtain ⟨x12, x13, eJ11, eL3⟩ := eL3
          have hJJ11 : At G 8 σ [(0, .ref (xo X)), (1, .int a1), (2, .long x12), (4, .int x13), (5, .int x6)] [] 132 := by
            refine A_iinc (v := x6 + 1) (lv' := [(5, .int (x6 + 1)), (0, .ref (xo X)), (1, .int a1), (2, .long x12), (4, .int x13)]) Γ dX0_detention_132 4 rfl rfl (by decide) rfl ?_
            refine A_goto (t := 18) Γ dX0_detention_135 (by decide) ?_
            exact A_sub [1, 2, 3, 4, 0] rfl (ihL3 _ _ _ (lpc3 eL3 hqL3))
          refine A_icmp_ne (t := 132) Γ dX0_detention_35 (by decide) (fun c => ?_) (fun c => ?_)
          · replace eJ11 := it_f c eJ11
            obtain ⟨rfl, rfl⟩ := inj2 eJ11
            exact A_sub [0, 1, 2, 3, 4] rfl hJJ11
          · replace eJ11 := it_t c eJ11
            refine A_aload_n Γ dX0_detention_38 0 rfl ?_
            refine g0_24 Γ Ξ dX0_detention_39 ?_
            refine A_iload Γ dX0_detention_42 4 rfl ?_
            replace eJ11 := b1 eJ11
            obtain ⟨v14, e15, eJ11⟩ := eJ11
            refine r0_24 Γ Ξ e15 dX0_detention_44 ?_
            refine A_if_ne (t := 132) Γ dX0_detention_45 (by decide) (fun c => ?_) (fun c => ?_)
            · replace eJ11 := it_f c eJ11
              obtain ⟨rfl, rfl⟩ := inj2 eJ11
              exact A_sub [0, 1, 2, 3, 4] rfl hJJ11
            · replace eJ11 := it_t c eJ11
              refine A_aload_n Γ dX0_detention_48 0 rfl ?_
              refine g0_25 Γ Ξ dX0_detention_49 ?_
              refine A_iload Γ dX0_detention_52 4 rfl ?_
              replace eJ11 := b1 eJ11
              obtain ⟨v16, e17, eJ11⟩ := eJ11
              refine r0_25 Γ Ξ e17 dX0_detention_54 ?_
              refine A_sipush (v := 1440) Γ dX0_detention_55 (by decide) ?_
              refine A_idiv Γ dX0_detention_58 (by decide) ?_
              refine A_istore (lv' := [(6, .int (v16 / 1440)), (0, .ref (xo X)), (1, .int a1), (2, .long x4), (4, .int x5), (5, .int x6)]) Γ dX0_detention_59 (by decide) rfl ?_
              refine A_aload_n Γ dX0_detention_61 1 rfl ?_
              refine A_iload Γ dX0_detention_62 5 rfl ?_
              replace eJ11 := b1 eJ11
              obtain ⟨v19, e18, eJ11⟩ := eJ11
              refine kX0_X0leftAt Γ Ξ hRm (by decide) (by decide) e18 (Nat.le_of_ble_eq_true rfl) dX0_detention_64 ?_
              refine A_aload_n Γ dX0_detention_67 1 rfl ?_
              refine g0_25 Γ Ξ dX0_detention_68 ?_
              refine A_iload Γ dX0_detention_71 5 rfl ?_
              replace eJ11 := b1 eJ11
              obtain ⟨v20, e21, eJ11⟩ := eJ11
              refine r0_25 Γ Ξ e21 dX0_detention_73 ?_
              refine A_isub Γ dX0_detention_74 ?_
              refine A_aload_n Γ dX0_detention_75 1 rfl ?_
              refine A_iconst (v := 0) Γ dX0_detention_76 (by decide) ?_
              refine A_aload_n Γ dX0_detention_77 1 rfl ?_
              refine g0_26 Γ Ξ dX0_detention_78 ?_
              refine A_iload Γ dX0_detention_81 5 rfl ?_
              replace eJ11 := b1 eJ11
              obtain ⟨v22, e23, eJ11⟩ := eJ11
              refine r0_26 Γ Ξ e23 dX0_detention_83 ?_
              refine A_iload Γ dX0_detention_84 0 rfl ?_
              refine A_iload Γ dX0_detention_86 0 rfl ?_
              replace eJ11 := b1 eJ11
              obtain ⟨v25, e24, eJ11⟩ := eJ11
              refine kX0_X0forceOf Γ Ξ hRm (by decide) (by decide) e24 (Nat.le_of_ble_eq_true rfl) dX0_detention_88 ?_
              refine A_isub Γ dX0_detention_91 ?_
              refine A_istore (lv' := [(7, .int ((v19 - v20) - v25)), (6, .int (v16 / 1440)), (0, .ref (xo X)), (1, .int a1), (2, .long x4), (4, .int x5), (5, .int x6)]) Γ dX0_detention_92 (by decide) rfl ?_
              refine A_iload Γ dX0_detention_94 0 rfl ?_
              refine A_if_le (t := 132) Γ dX0_detention_96 (by decide) (fun c => ?_) (fun c => ?_)
              · replace eJ11 := it_t c eJ11
                obtain ⟨rfl, rfl⟩ := inj2 eJ11
                exact A_sub [2, 3, 4, 5, 6] rfl hJJ11
              · replace eJ11 := it_f c eJ11
                refine A_iinc (v := x5 + 1) (lv' := [(4, .int (x5 + 1)), (7, .int ((v19 - v20) - v25)), (6, .int (v16 / 1440)), (0, .ref (xo X)), (1, .int a1), (2, .long x4), (5, .int x6)]) Γ dX0_detention_99 5 rfl rfl (by decide) rfl ?_
                refine A_lload_n Γ dX0_detention_102 5 rfl ?_
                refine A_iload Γ dX0_detention_103 1 rfl ?_
                refine A_bipush (v := 59) Γ dX0_detention_105 (by decide) ?_
                refine A_iadd Γ dX0_detention_107 ?_
                refine A_bipush (v := 60) Γ dX0_detention_108 (by decide) ?_
                refine A_idiv Γ dX0_detention_110 (by decide) ?_
                refine A_i2l Γ dX0_detention_111 ?_
                refine A_aload_n Γ dX0_detention_112 3 rfl ?_
                refine A_iconst (v := 1) Γ dX0_detention_113 (by decide) ?_
                refine A_aload_n Γ dX0_detention_114 3 rfl ?_
                refine g0_26 Γ Ξ dX0_detention_115 ?_
                refine A_iload Γ dX0_detention_118 6 rfl ?_
                replace eJ11 := b1 eJ11
                obtain ⟨v26, e27, eJ11⟩ := eJ11
                refine r0_26 Γ Ξ e27 dX0_detention_120 ?_
                refine A_iload Γ dX0_detention_121 2 rfl ?_
                refine A_iload Γ dX0_detention_123 2 rfl ?_
                replace eJ11 := b1 eJ11
                obtain ⟨v29, e28, eJ11⟩ := eJ11
                refine kX0_X0forceOf Γ Ξ hRm (by decide) (by decide) e28 (Nat.le_of_ble_eq_true rfl) dX0_detention_125 ?_
                refine A_i2l Γ dX0_detention_128 ?_
                refine A_lmul Γ dX0_detention_129 ?_
                refine A_ladd Γ dX0_detention_130 ?_
                refine A_lstore_n (lv' := [(2, .long (x4 + ((((((v19 - v20) - v25) + 59) / 60).toInt64) * v29.toInt64))), (4, .int (x5 + 1)), (7, .int ((v19 - v20) - v25)), (6, .int (v16 / 1440)), (0, .ref (xo X)), (1, .int a1), (5, .int x6)]) Γ dX0_detention_131 (by decide) rfl ?_
                obtain ⟨rfl, rfl⟩ := inj2 eJ11
                exact A_sub [4, 5, 0, 1, 6] rfl hJJ11
    exact A_sub [3, 4, 2, 1, 0] rfl (hLL3 _ _ _ _ eLL3)
  · replace h := it_t c h
    refine A_iconst (v := (-1)) Γ dX0_detention_8 (by decide) ?_
    obtain ⟨rfl, rfl⟩ := inj2 h
    exact hret _ _ dX0_detention_9
theorem mtX0_detention (l : Launch) (X : Xw) {σ σ' : St} {a1 : Int32} {r : Int32} (h : c_detention σ a1 = some (r, σ')) : MetZ 0 l X yX0_detention cX0_detention 8 (some .int) 2 43 [.ref (xo X), .int a1] σ (some (.int r)) σ' := MetZ.ofAt (by decide) (Nat.le_of_ble_eq_true rfl) (fun G _ Γ Ξ hR hret => wkX0_detention Γ Ξ hR h hret)

set_option maxHeartbeats 4000000 in
set_option maxRecDepth 100000 in
theorem wkX0_law {G : Gx} {X : Xw} {σ σ' : St} {a1 : Int32} {a2 : Int32} (Γ : Ok G RX0 cX0_law 3) (Ξ : OkX 0 G X) (hRm : Rm G 1 22) {r : Int32} (h : c_law σ a1 a2 = some (r, σ')) (hret : ∀ (pc : Nat) (lv : List (Nat × Value)), retIs cX0_law (some .int) (some (.int r)) pc → At G 3 σ' lv [.int r] pc) : At G 3 σ [(0, .ref (xo X)), (1, .int a1), (2, .int a2)] [] 0 := by
  rw [c_law] at h
  refine A_iload_n Γ dX0_law_0 1 rfl ?_
  refine A_iconst (v := 0) Γ dX0_law_1 (by decide) ?_
  refine A_ldc (v := 100000) Γ q556 dX0_law_2 ?_
  replace h := b1 h
  obtain ⟨v2, e1, h⟩ := h
  refine kX0_X0in Γ (kpX Ξ) hRm (by decide) (by decide) e1 (Nat.le_of_ble_eq_true rfl) dX0_law_4 ?_
  refine A_if_eq (t := 20) Γ dX0_law_7 (by decide) (fun c => ?_) (fun c => ?_)
  · replace h := it_t c h
    refine A_iconst (v := (-1)) Γ dX0_law_20 (by decide) ?_
    obtain ⟨rfl, rfl⟩ := inj2 h
    exact hret _ _ dX0_law_21
  · replace h := it_f c h
    refine A_iload_n Γ dX0_law_10 2 rfl ?_
    refine A_iconst (v := 0) Γ dX0_law_11 (by decide) ?_
    refine A_ldc (v := 100000) Γ q556 dX0_law_12 ?_
    replace h := b1 h
    obtain ⟨v4, e3, h⟩ := h
    refine kX0_X0in Γ (kpX Ξ) hRm (by decide) (by decide) e3 (Nat.le_of_ble_eq_true rfl) dX0_law_14 ?_
    refine A_if_ne (t := 22) Γ dX0_law_17 (by decide) (fun c => ?_) (fun c => ?_)
    · replace h := it_f c h
      refine A_aload_n Γ dX0_law_22 0 rfl ?_
      refine A_iload_n Γ dX0_law_23 1 rfl ?_
      refine p0_20 Γ Ξ dX0_law_24 ?_
      refine A_aload_n Γ dX0_law_27 0 rfl ?_
      refine A_iload_n Γ dX0_law_28 2 rfl ?_
      refine p0_21 Γ Ξ dX0_law_29 ?_
      refine A_iconst (v := 1) Γ dX0_law_32 (by decide) ?_
      obtain ⟨rfl, rfl⟩ := inj2 h
      exact hret _ _ dX0_law_33
    · replace h := it_t c h
      refine A_iconst (v := (-1)) Γ dX0_law_20 (by decide) ?_
      obtain ⟨rfl, rfl⟩ := inj2 h
      exact hret _ _ dX0_law_21
theorem mtX0_law (l : Launch) (X : Xw) {σ σ' : St} {a1 : Int32} {a2 : Int32} {r : Int32} (h : c_law σ a1 a2 = some (r, σ')) : MetZ 0 l X yX0_law cX0_law 3 (some .int) 1 22 [.ref (xo X), .int a1, .int a2] σ (some (.int r)) σ' := MetZ.ofAt (by decide) (Nat.le_of_ble_eq_true rfl) (fun G _ Γ Ξ hR hret => wkX0_law Γ Ξ hR h hret)

set_option maxHeartbeats 4000000 in
set_option maxRecDepth 100000 in
theorem wkX0_load {G : Gx} {X : Xw} {σ σ' : St} {a1 : Int32} {a2 : Int32} {a3 : Int32} (Γ : Ok G RX0 cX0_load 5) (Ξ : OkX 0 G X) (hRm : Rm G 2 43) {r : Int32} (h : c_load σ a1 a2 a3 = some (r, σ')) (hret : ∀ (pc : Nat) (lv : List (Nat × Value)), retIs cX0_load (some .int) (some (.int r)) pc → At G 5 σ' lv [.int r] pc) : At G 5 σ [(0, .ref (xo X)), (1, .int a1), (2, .int a2), (3, .int a3)] [] 0 := by
  rw [c_load] at h
  refine A_aload_n Γ dX0_load_0 0 rfl ?_
  refine A_iload_n Γ dX0_load_1 1 rfl ?_
  replace h := b1 h
  obtain ⟨v2, e1, h⟩ := h
  refine kX0_X0isTrailer Γ Ξ hRm (by decide) (by decide) e1 (Nat.le_of_ble_eq_true rfl) dX0_load_2 ?_
  refine A_if_eq (t := 30) Γ dX0_load_5 (by decide) (fun c => ?_) (fun c => ?_)
  · replace h := it_t c h
    refine A_iconst (v := (-1)) Γ dX0_load_30 (by decide) ?_
    obtain ⟨rfl, rfl⟩ := inj2 h
    exact hret _ _ dX0_load_31
  · replace h := it_f c h
    refine A_iload_n Γ dX0_load_8 2 rfl ?_
    refine A_iconst (v := 1) Γ dX0_load_9 (by decide) ?_
    refine A_sipush (v := 20000) Γ dX0_load_10 (by decide) ?_
    replace h := b1 h
    obtain ⟨v4, e3, h⟩ := h
    refine kX0_X0in Γ (kpX Ξ) hRm (by decide) (by decide) e3 (Nat.le_of_ble_eq_true rfl) dX0_load_13 ?_
    refine A_if_eq (t := 30) Γ dX0_load_16 (by decide) (fun c => ?_) (fun c => ?_)
    · replace h := it_t c h
      refine A_iconst (v := (-1)) Γ dX0_load_30 (by decide) ?_
      obtain ⟨rfl, rfl⟩ := inj2 h
      exact hret _ _ dX0_load_31
    · replace h := it_f c h
      refine A_iload_n Γ dX0_load_19 3 rfl ?_
      refine A_iconst (v := 0) Γ dX0_load_20 (by decide) ?_
      refine A_sipush (v := 130) Γ dX0_load_21 (by decide) ?_
      replace h := b1 h
      obtain ⟨v6, e5, h⟩ := h
      refine kX0_X0in Γ (kpX Ξ) hRm (by decide) (by decide) e5 (Nat.le_of_ble_eq_true rfl) dX0_load_24 ?_
      refine A_if_ne (t := 32) Γ dX0_load_27 (by decide) (fun c => ?_) (fun c => ?_)
      · replace h := it_f c h
        refine A_aload_n Γ dX0_load_32 0 rfl ?_
        refine g0_18 Γ Ξ dX0_load_33 ?_
        refine A_iload_n Γ dX0_load_36 1 rfl ?_
        replace h := b1 h
        obtain ⟨k7, e8, h⟩ := h
        refine A_trsD Γ Ξ e8 dX0_load_37 ?_
        refine A_astore (lv' := [(4, .ref (xad X (120 + k7))), (0, .ref (xo X)), (1, .int a1), (2, .int a2), (3, .int a3)]) Γ dX0_load_38 (by decide) rfl ?_
        refine A_aload Γ dX0_load_40 0 rfl ?_
        replace h := b1 h
        obtain ⟨v9, e10, h⟩ := h
        refine gTX0_7 Γ Ξ (kTr_tD e8) rfl e10 dX0_load_42 ?_
        refine A_bipush (v := 6) Γ dX0_load_45 (by decide) ?_
        refine A_icmp_ne (t := 53) Γ dX0_load_47 (by decide) (fun c => ?_) (fun c => ?_)
        · replace h := it_f c h
          refine A_aload Γ dX0_load_53 0 rfl ?_
          replace h := b1 h
          obtain ⟨n11, e12, h⟩ := h
          refine gTX0_8 Γ Ξ (kTr_tD e8) rfl e12 dX0_load_55 ?_
          refine A_aload Γ dX0_load_58 0 rfl ?_
          replace h := b1 h
          obtain ⟨v13, e14, h⟩ := h
          refine gTX0_7 Γ Ξ (kTr_tD e8) rfl e14 dX0_load_60 ?_
          refine A_iload_n Γ dX0_load_63 3 rfl ?_
          replace h := b1 h
          obtain ⟨σ15, e16, h⟩ := h
          refine A_astD Γ Ξ (kInt_w (kTr_tD e8)) rfl e16 dX0_load_64 ?_
          refine A_aload Γ dX0_load_65 0 rfl ?_
          replace h := b1 h
          obtain ⟨n17, e18, h⟩ := h
          refine gTX0_9 Γ Ξ (kTr_tD e8) rfl e18 dX0_load_67 ?_
          refine A_aload Γ dX0_load_70 0 rfl ?_
          replace h := b1 h
          obtain ⟨v19, e20, h⟩ := h
          refine gTX0_7 Γ Ξ (kTr_tD e8) rfl e20 dX0_load_72 ?_
          refine A_iload_n Γ dX0_load_75 4 rfl ?_
          replace h := b1 h
          obtain ⟨σ21, e22, h⟩ := h
          refine A_astD Γ Ξ (kInt_p (kTr_tD e8)) rfl e22 dX0_load_76 ?_
          refine A_aload Γ dX0_load_77 0 rfl ?_
          refine A_dup Γ dX0_load_79 rfl ?_
          replace h := b1 h
          obtain ⟨v23, e24, h⟩ := h
          refine gTX0_7 Γ Ξ (kTr_tD e8) rfl e24 dX0_load_80 ?_
          refine A_iconst (v := 1) Γ dX0_load_83 (by decide) ?_
          refine A_iadd Γ dX0_load_84 ?_
          replace h := b1 h
          obtain ⟨σ25, e26, h⟩ := h
          refine pTX0_7 Γ Ξ (kTr_tD e8) rfl e26 dX0_load_85 ?_
          refine A_aload Γ dX0_load_88 0 rfl ?_
          replace h := b1 h
          obtain ⟨v27, e28, h⟩ := h
          refine gTX0_7 Γ Ξ (kTr_tD e8) rfl e28 dX0_load_90 ?_
          obtain ⟨rfl, rfl⟩ := inj2 h
          exact hret _ _ dX0_load_93
        · replace h := it_t c h
          refine A_bipush (v := (-2)) Γ dX0_load_50 (by decide) ?_
          obtain ⟨rfl, rfl⟩ := inj2 h
          exact hret _ _ dX0_load_52
      · replace h := it_t c h
        refine A_iconst (v := (-1)) Γ dX0_load_30 (by decide) ?_
        obtain ⟨rfl, rfl⟩ := inj2 h
        exact hret _ _ dX0_load_31
theorem mtX0_load (l : Launch) (X : Xw) {σ σ' : St} {a1 : Int32} {a2 : Int32} {a3 : Int32} {r : Int32} (h : c_load σ a1 a2 a3 = some (r, σ')) : MetZ 0 l X yX0_load cX0_load 5 (some .int) 2 43 [.ref (xo X), .int a1, .int a2, .int a3] σ (some (.int r)) σ' := MetZ.ofAt (by decide) (Nat.le_of_ble_eq_true rfl) (fun G _ Γ Ξ hR hret => wkX0_load Γ Ξ hR h hret)

set_option maxHeartbeats 4000000 in
set_option maxRecDepth 100000 in
theorem wkX0_unload {G : Gx} {X : Xw} {σ σ' : St} {a1 : Int32} (Γ : Ok G RX0 cX0_unload 3) (Ξ : OkX 0 G X) (hRm : Rm G 2 43) {r : Int32} (h : c_unload σ a1 = some (r, σ')) (hret : ∀ (pc : Nat) (lv : List (Nat × Value)), retIs cX0_unload (some .int) (some (.int r)) pc → At G 3 σ' lv [.int r] pc) : At G 3 σ [(0, .ref (xo X)), (1, .int a1)] [] 0 := by
  rw [c_unload] at h
  refine A_aload_n Γ dX0_unload_0 0 rfl ?_
  refine A_iload_n Γ dX0_unload_1 1 rfl ?_
  replace h := b1 h
  obtain ⟨v2, e1, h⟩ := h
  refine kX0_X0isTrailer Γ Ξ hRm (by decide) (by decide) e1 (Nat.le_of_ble_eq_true rfl) dX0_unload_2 ?_
  refine A_if_ne (t := 10) Γ dX0_unload_5 (by decide) (fun c => ?_) (fun c => ?_)
  · replace h := it_f c h
    refine A_aload_n Γ dX0_unload_10 0 rfl ?_
    refine g0_18 Γ Ξ dX0_unload_11 ?_
    refine A_iload_n Γ dX0_unload_14 1 rfl ?_
    replace h := b1 h
    obtain ⟨k3, e4, h⟩ := h
    refine A_trsD Γ Ξ e4 dX0_unload_15 ?_
    replace h := b1 h
    obtain ⟨v5, e6, h⟩ := h
    refine gTX0_7 Γ Ξ (kTr_tD e4) rfl e6 dX0_unload_16 ?_
    refine A_istore_n (lv' := [(2, .int v5), (0, .ref (xo X)), (1, .int a1)]) Γ dX0_unload_19 (by decide) rfl ?_
    refine A_aload_n Γ dX0_unload_20 1 rfl ?_
    refine g0_18 Γ Ξ dX0_unload_21 ?_
    refine A_iload_n Γ dX0_unload_24 2 rfl ?_
    replace h := b1 h
    obtain ⟨k7, e8, h⟩ := h
    refine A_trsD Γ Ξ e8 dX0_unload_25 ?_
    refine A_iconst (v := 0) Γ dX0_unload_26 (by decide) ?_
    replace h := b1 h
    obtain ⟨σ9, e10, h⟩ := h
    refine pTX0_7 Γ Ξ (kTr_tD e8) rfl e10 dX0_unload_27 ?_
    refine A_iload_n Γ dX0_unload_30 0 rfl ?_
    obtain ⟨rfl, rfl⟩ := inj2 h
    exact hret _ _ dX0_unload_31
  · replace h := it_t c h
    refine A_iconst (v := (-1)) Γ dX0_unload_8 (by decide) ?_
    obtain ⟨rfl, rfl⟩ := inj2 h
    exact hret _ _ dX0_unload_9
theorem mtX0_unload (l : Launch) (X : Xw) {σ σ' : St} {a1 : Int32} {r : Int32} (h : c_unload σ a1 = some (r, σ')) : MetZ 0 l X yX0_unload cX0_unload 3 (some .int) 2 43 [.ref (xo X), .int a1] σ (some (.int r)) σ' := MetZ.ofAt (by decide) (Nat.le_of_ble_eq_true rfl) (fun G _ Γ Ξ hR hret => wkX0_unload Γ Ξ hR h hret)

set_option maxHeartbeats 4000000 in
set_option maxRecDepth 100000 in
theorem wkX0_slide {G : Gx} {X : Xw} {σ σ' : St} {a1 : Int32} {a2 : Int32} (Γ : Ok G RX0 cX0_slide 4) (Ξ : OkX 0 G X) (hRm : Rm G 2 43) {r : Int32} (h : c_slide σ a1 a2 = some (r, σ')) (hret : ∀ (pc : Nat) (lv : List (Nat × Value)), retIs cX0_slide (some .int) (some (.int r)) pc → At G 4 σ' lv [.int r] pc) : At G 4 σ [(0, .ref (xo X)), (1, .int a1), (2, .int a2)] [] 0 := by
  rw [c_slide] at h
  refine A_aload_n Γ dX0_slide_0 0 rfl ?_
  refine A_iload_n Γ dX0_slide_1 1 rfl ?_
  replace h := b1 h
  obtain ⟨v2, e1, h⟩ := h
  refine kX0_X0isTrailer Γ Ξ hRm (by decide) (by decide) e1 (Nat.le_of_ble_eq_true rfl) dX0_slide_2 ?_
  refine A_if_eq (t := 19) Γ dX0_slide_5 (by decide) (fun c => ?_) (fun c => ?_)
  · replace h := it_t c h
    refine A_iconst (v := (-1)) Γ dX0_slide_19 (by decide) ?_
    obtain ⟨rfl, rfl⟩ := inj2 h
    exact hret _ _ dX0_slide_20
  · replace h := it_f c h
    refine A_iload_n Γ dX0_slide_8 2 rfl ?_
    refine A_bipush (v := 60) Γ dX0_slide_9 (by decide) ?_
    refine A_bipush (v := 120) Γ dX0_slide_11 (by decide) ?_
    replace h := b1 h
    obtain ⟨v4, e3, h⟩ := h
    refine kX0_X0in Γ (kpX Ξ) hRm (by decide) (by decide) e3 (Nat.le_of_ble_eq_true rfl) dX0_slide_13 ?_
    refine A_if_ne (t := 21) Γ dX0_slide_16 (by decide) (fun c => ?_) (fun c => ?_)
    · replace h := it_f c h
      refine A_aload_n Γ dX0_slide_21 0 rfl ?_
      refine g0_18 Γ Ξ dX0_slide_22 ?_
      refine A_iload_n Γ dX0_slide_25 1 rfl ?_
      replace h := b1 h
      obtain ⟨k5, e6, h⟩ := h
      refine A_trsD Γ Ξ e6 dX0_slide_26 ?_
      replace h := b1 h
      obtain ⟨v7, e8, h⟩ := h
      refine gTX0_6 Γ Ξ (kTr_tD e6) rfl e8 dX0_slide_27 ?_
      refine A_istore_n (lv' := [(3, .int v7), (0, .ref (xo X)), (1, .int a1), (2, .int a2)]) Γ dX0_slide_30 (by decide) rfl ?_
      refine A_aload_n Γ dX0_slide_31 1 rfl ?_
      refine g0_18 Γ Ξ dX0_slide_32 ?_
      refine A_iload_n Γ dX0_slide_35 2 rfl ?_
      replace h := b1 h
      obtain ⟨k9, e10, h⟩ := h
      refine A_trsD Γ Ξ e10 dX0_slide_36 ?_
      refine A_iload_n Γ dX0_slide_37 3 rfl ?_
      replace h := b1 h
      obtain ⟨σ11, e12, h⟩ := h
      refine pTX0_6 Γ Ξ (kTr_tD e10) rfl e12 dX0_slide_38 ?_
      refine A_iload_n Γ dX0_slide_41 0 rfl ?_
      obtain ⟨rfl, rfl⟩ := inj2 h
      exact hret _ _ dX0_slide_42
    · replace h := it_t c h
      refine A_iconst (v := (-1)) Γ dX0_slide_19 (by decide) ?_
      obtain ⟨rfl, rfl⟩ := inj2 h
      exact hret _ _ dX0_slide_20
theorem mtX0_slide (l : Launch) (X : Xw) {σ σ' : St} {a1 : Int32} {a2 : Int32} {r : Int32} (h : c_slide σ a1 a2 = some (r, σ')) : MetZ 0 l X yX0_slide cX0_slide 4 (some .int) 2 43 [.ref (xo X), .int a1, .int a2] σ (some (.int r)) σ' := MetZ.ofAt (by decide) (Nat.le_of_ble_eq_true rfl) (fun G _ Γ Ξ hR hret => wkX0_slide Γ Ξ hR h hret)

set_option maxHeartbeats 4000000 in
set_option maxRecDepth 100000 in
theorem wkX0_weight {G : Gx} {X : Xw} {σ σ' : St} {a1 : Int32} {a2 : Int32} (Γ : Ok G RX0 cX0_weight 6) (Ξ : OkX 0 G X) (hRm : Rm G 2 52) {r : Int32} (h : c_weight σ a1 a2 = some (r, σ')) (hret : ∀ (pc : Nat) (lv : List (Nat × Value)), retIs cX0_weight (some .int) (some (.int r)) pc → At G 6 σ' lv [.int r] pc) : At G 6 σ [(0, .ref (xo X)), (1, .int a1), (2, .int a2)] [] 0 := by
  rw [c_weight] at h
  refine A_aload_n Γ dX0_weight_0 0 rfl ?_
  refine A_iload_n Γ dX0_weight_1 1 rfl ?_
  replace h := b1 h
  obtain ⟨v2, e1, h⟩ := h
  refine kX0_X0isTrailer Γ Ξ hRm (by decide) (by decide) e1 (Nat.le_of_ble_eq_true rfl) dX0_weight_2 ?_
  refine A_if_ne (t := 10) Γ dX0_weight_5 (by decide) (fun c => ?_) (fun c => ?_)
  · replace h := it_f c h
    refine A_aload_n Γ dX0_weight_10 0 rfl ?_
    refine g0_18 Γ Ξ dX0_weight_11 ?_
    refine A_iload_n Γ dX0_weight_14 1 rfl ?_
    replace h := b1 h
    obtain ⟨k3, e4, h⟩ := h
    refine A_trsD Γ Ξ e4 dX0_weight_15 ?_
    refine A_astore_n (lv' := [(3, .ref (xad X (120 + k3))), (0, .ref (xo X)), (1, .int a1), (2, .int a2)]) Γ dX0_weight_16 (by decide) rfl ?_
    refine A_aload_n Γ dX0_weight_17 0 rfl ?_
    replace h := b1 h
    obtain ⟨n5, e6, h⟩ := h
    replace h := b1 h
    obtain ⟨v7, e8, h⟩ := h
    refine kTX0_turning Γ Ξ (kTr_tD e4) rfl e6 hRm (by decide) (by decide) e8 (Nat.le_of_ble_eq_true rfl) dX0_weight_18 ?_
    refine A_lstore (lv' := [(4, .long v7), (3, .ref (xad X (120 + k3))), (0, .ref (xo X)), (1, .int a1), (2, .int a2)]) Γ dX0_weight_21 (by decide) rfl ?_
    refine A_aload_n Γ dX0_weight_23 2 rfl ?_
    refine A_iload_n Γ dX0_weight_24 4 rfl ?_
    replace h := b1 h
    obtain ⟨x10, eJ9, h⟩ := h
    have hJJ9 : At G 6 σ [(3, .ref (xad X (120 + k3)))] [.long x10, .ref (xo X)] 46 := by
      refine A_aload_n Γ dX0_weight_46 0 rfl ?_
      replace h := b1 h
      obtain ⟨v17, e18, h⟩ := h
      refine gTX0_6 Γ Ξ (kTr_tD e4) rfl e18 dX0_weight_47 ?_
      refine A_i2l Γ dX0_weight_50 ?_
      refine A_iconst (v := 1) Γ dX0_weight_51 (by decide) ?_
      replace h := b2 h
      obtain ⟨v20, σ21, e19, h⟩ := h
      refine kX0_X0fraction Γ Ξ hRm (by decide) (by decide) e19 (Nat.le_of_ble_eq_true rfl) dX0_weight_52 ?_
      obtain ⟨rfl, rfl⟩ := inj2 h
      exact hret _ _ dX0_weight_55
    refine A_if_eq (t := 44) Γ dX0_weight_25 (by decide) (fun c => ?_) (fun c => ?_)
    · replace eJ9 := it_t c eJ9
      refine A_lload Γ dX0_weight_44 0 rfl ?_
      obtain rfl := inj1 eJ9
      exact A_sub [1] rfl hJJ9
    · replace eJ9 := it_f c eJ9
      refine A_aload_n Γ dX0_weight_28 1 rfl ?_
      replace eJ9 := b1 eJ9
      obtain ⟨n11, e12, eJ9⟩ := eJ9
      replace eJ9 := b1 eJ9
      obtain ⟨v13, e14, eJ9⟩ := eJ9
      refine kTX0_all Γ Ξ (kTr_tD e4) rfl e12 hRm (by decide) (by decide) e14 (Nat.le_of_ble_eq_true rfl) dX0_weight_29 ?_
      refine A_aload_n Γ dX0_weight_32 1 rfl ?_
      replace eJ9 := b1 eJ9
      obtain ⟨v15, e16, eJ9⟩ := eJ9
      refine gTX0_6 Γ Ξ (kTr_tD e4) rfl e16 dX0_weight_33 ?_
      refine A_i2l Γ dX0_weight_36 ?_
      refine A_lmul Γ dX0_weight_37 ?_
      refine A_lload Γ dX0_weight_38 0 rfl ?_
      refine A_lsub Γ dX0_weight_40 ?_
      refine A_goto (t := 46) Γ dX0_weight_41 (by decide) ?_
      obtain rfl := inj1 eJ9
      exact A_sub [1] rfl hJJ9
  · replace h := it_t c h
    refine A_iconst (v := (-1)) Γ dX0_weight_8 (by decide) ?_
    obtain ⟨rfl, rfl⟩ := inj2 h
    exact hret _ _ dX0_weight_9
theorem mtX0_weight (l : Launch) (X : Xw) {σ σ' : St} {a1 : Int32} {a2 : Int32} {r : Int32} (h : c_weight σ a1 a2 = some (r, σ')) : MetZ 0 l X yX0_weight cX0_weight 6 (some .int) 2 52 [.ref (xo X), .int a1, .int a2] σ (some (.int r)) σ' := MetZ.ofAt (by decide) (Nat.le_of_ble_eq_true rfl) (fun G _ Γ Ξ hR hret => wkX0_weight Γ Ξ hR h hret)

set_option maxHeartbeats 4000000 in
set_option maxRecDepth 100000 in
theorem wkX0_lawful {G : Gx} {X : Xw} {σ : St} {a1 : Int32} (Γ : Ok G RX0 cX0_lawful 2) (Ξ : OkX 0 G X) (hRm : Rm G 2 48) {r : Int32} (h : c_lawful σ a1 = some r) (hret : ∀ (pc : Nat) (lv : List (Nat × Value)), retIs cX0_lawful (some .int) (some (.int r)) pc → At G 2 σ lv [.int r] pc) : At G 2 σ [(0, .ref (xo X)), (1, .int a1)] [] 0 := by
  rw [c_lawful] at h
  refine A_aload_n Γ dX0_lawful_0 0 rfl ?_
  refine A_iload_n Γ dX0_lawful_1 1 rfl ?_
  replace h := b1 h
  obtain ⟨v2, e1, h⟩ := h
  refine kX0_X0isTrailer Γ Ξ hRm (by decide) (by decide) e1 (Nat.le_of_ble_eq_true rfl) dX0_lawful_2 ?_
  replace h := b1 h
  obtain ⟨x4, eJ3, h⟩ := h
  have hJJ3 : At G 2 σ [] [.int x4] 38 := by
    obtain rfl := inj1 h
    exact hret _ _ dX0_lawful_38
  refine A_if_ne (t := 12) Γ dX0_lawful_5 (by decide) (fun c => ?_) (fun c => ?_)
  · replace eJ3 := it_f c eJ3
    refine A_aload_n Γ dX0_lawful_12 0 rfl ?_
    refine g0_18 Γ Ξ dX0_lawful_13 ?_
    refine A_iload_n Γ dX0_lawful_16 1 rfl ?_
    replace eJ3 := b1 eJ3
    obtain ⟨k5, e6, eJ3⟩ := eJ3
    refine A_trsD Γ Ξ e6 dX0_lawful_17 ?_
    refine A_aload_n Γ dX0_lawful_18 0 rfl ?_
    refine g0_18 Γ Ξ dX0_lawful_19 ?_
    refine A_iload_n Γ dX0_lawful_22 1 rfl ?_
    replace eJ3 := b1 eJ3
    obtain ⟨k7, e8, eJ3⟩ := eJ3
    refine A_trsD Γ Ξ e8 dX0_lawful_23 ?_
    replace eJ3 := b1 eJ3
    obtain ⟨v9, e10, eJ3⟩ := eJ3
    refine gTX0_6 Γ Ξ (kTr_tD e8) rfl e10 dX0_lawful_24 ?_
    replace eJ3 := b1 eJ3
    obtain ⟨n11, e12, eJ3⟩ := eJ3
    replace eJ3 := b1 eJ3
    obtain ⟨v13, e14, eJ3⟩ := eJ3
    refine kTX0_isLawful Γ Ξ (kTr_tD e6) rfl e12 hRm (by decide) (by decide) e14 (Nat.le_of_ble_eq_true rfl) dX0_lawful_27 ?_
    refine A_if_eq (t := 37) Γ dX0_lawful_30 (by decide) (fun c => ?_) (fun c => ?_)
    · replace eJ3 := it_t c eJ3
      refine A_iconst (v := 0) Γ dX0_lawful_37 (by decide) ?_
      obtain rfl := inj1 eJ3
      exact A_sub [] rfl hJJ3
    · replace eJ3 := it_f c eJ3
      refine A_iconst (v := 1) Γ dX0_lawful_33 (by decide) ?_
      refine A_goto (t := 38) Γ dX0_lawful_34 (by decide) ?_
      obtain rfl := inj1 eJ3
      exact A_sub [] rfl hJJ3
  · replace eJ3 := it_t c eJ3
    refine A_iconst (v := (-1)) Γ dX0_lawful_8 (by decide) ?_
    refine A_goto (t := 38) Γ dX0_lawful_9 (by decide) ?_
    obtain rfl := inj1 eJ3
    exact A_sub [] rfl hJJ3
theorem mtX0_lawful (l : Launch) (X : Xw) {σ : St} {a1 : Int32} {r : Int32} (h : c_lawful σ a1 = some r) : MetZ 0 l X yX0_lawful cX0_lawful 2 (some .int) 2 48 [.ref (xo X), .int a1] σ (some (.int r)) σ := MetZ.ofAt (by decide) (Nat.le_of_ble_eq_true rfl) (fun G _ Γ Ξ hR hret => wkX0_lawful Γ Ξ hR h hret)

set_option maxHeartbeats 4000000 in
set_option maxRecDepth 100000 in
theorem wkX0_shift {G : Gx} {X : Xw} {σ : St} {a1 : Int32} (Γ : Ok G RX0 cX0_shift 4) (Ξ : OkX 0 G X) (hRm : Rm G 2 48) {r : Int32} (h : c_shift σ a1 = some r) (hret : ∀ (pc : Nat) (lv : List (Nat × Value)), retIs cX0_shift (some .int) (some (.int r)) pc → At G 4 σ lv [.int r] pc) : At G 4 σ [(0, .ref (xo X)), (1, .int a1)] [] 0 := by
  rw [c_shift] at h
  refine A_aload_n Γ dX0_shift_0 0 rfl ?_
  refine A_iload_n Γ dX0_shift_1 1 rfl ?_
  replace h := b1 h
  obtain ⟨v2, e1, h⟩ := h
  refine kX0_X0isTrailer Γ Ξ hRm (by decide) (by decide) e1 (Nat.le_of_ble_eq_true rfl) dX0_shift_2 ?_
  refine A_if_ne (t := 10) Γ dX0_shift_5 (by decide) (fun c => ?_) (fun c => ?_)
  · replace h := it_f c h
    refine A_aload_n Γ dX0_shift_10 0 rfl ?_
    refine g0_18 Γ Ξ dX0_shift_11 ?_
    refine A_iload_n Γ dX0_shift_14 1 rfl ?_
    replace h := b1 h
    obtain ⟨k3, e4, h⟩ := h
    refine A_trsD Γ Ξ e4 dX0_shift_15 ?_
    refine A_astore_n (lv' := [(2, .ref (xad X (120 + k3))), (0, .ref (xo X)), (1, .int a1)]) Γ dX0_shift_16 (by decide) rfl ?_
    refine A_iconst (v := 0) Γ dX0_shift_17 (by decide) ?_
    refine A_istore_n (lv' := [(3, .int 0), (2, .ref (xad X (120 + k3))), (0, .ref (xo X)), (1, .int a1)]) Γ dX0_shift_18 (by decide) rfl ?_
    replace h := bR1 h
    obtain ⟨qqL5, eLL5, hsL5⟩ := h
    have hXL5 : ∀ (u7 : Unit), qqL5 = .inl u7 → At G 4 σ [] [] 93 := by
      intro u7 e0
      rcases hsL5 with ⟨u7z, e1, h⟩ | ⟨r1, e1, _⟩
      · cases e0.symm.trans e1
        refine A_bipush (v := (-9)) Γ dX0_shift_93 (by decide) ?_
        obtain rfl := inj1 h
        exact hret _ _ dX0_shift_95
      · cases e0.symm.trans e1
    have hRtL5 : ∀ w : Int32, qqL5 = .inr w → some w = some r := by
      intro w e0
      rcases hsL5 with ⟨u7z, e1, _⟩ | ⟨r1, e1, h9⟩
      · cases e0.symm.trans e1
      · cases e0.symm.trans e1; exact h9
    replace eLL5 := lq1_ex eLL5
    obtain ⟨nL5, eLL5⟩ := eLL5
    have hLL5 : ∀ (nL5 : Nat) (x6 : Int32), lpf1 (c_shift_L5 σ k3) nL5 x6 = some qqL5 → At G 4 σ [(2, .ref (xad X (120 + k3))), (3, .int x6)] [] 19 := by
      intro nL5
      induction nL5 with
      | zero => intro x6 eL5; exact (lpf1_0 eL5).elim
      | succ nL5 ihL5 =>
        intro x6 eL5
        replace eL5 := lpf1_s eL5
        obtain ⟨qL5, eL5, hqL5⟩ := eL5
        rw [c_shift_L5] at eL5
        refine A_iload_n Γ dX0_shift_19 1 rfl ?_
        refine A_bipush (v := 60) Γ dX0_shift_20 (by decide) ?_
        refine A_icmp_gt (t := 93) Γ dX0_shift_22 (by decide) (fun c => ?_) (fun c => ?_)
        · replace eL5 := it_t c eL5
          exact A_sub [] rfl (hXL5 _ (lpx1 eL5 hqL5).symm)
        · replace eL5 := it_f c eL5
          refine A_aload_n Γ dX0_shift_25 0 rfl ?_
          replace eL5 := b1 eL5
          obtain ⟨v8, e9, eL5⟩ := eL5
          refine gTX0_6 Γ Ξ (kTr_tD e4) rfl e9 dX0_shift_26 ?_
          refine A_iload_n Γ dX0_shift_29 1 rfl ?_
          refine A_isub Γ dX0_shift_30 ?_
          refine A_bipush (v := 60) Γ dX0_shift_31 (by decide) ?_
          have hKK10 : c_shift_K10 σ k3 x6  = some qL5 → At G 4 σ [(2, .ref (xad X (120 + k3))), (3, .int x6)] [] 56 := by
            clear eL5
            intro  eL5
            rw [c_shift_K10] at eL5
            refine A_aload_n Γ dX0_shift_56 0 rfl ?_
            replace eL5 := b1 eL5
            obtain ⟨v11, e12, eL5⟩ := eL5
            refine gTX0_6 Γ Ξ (kTr_tD e4) rfl e12 dX0_shift_57 ?_
            refine A_iload_n Γ dX0_shift_60 1 rfl ?_
            refine A_iadd Γ dX0_shift_61 ?_
            refine A_bipush (v := 120) Γ dX0_shift_62 (by decide) ?_
            refine A_icmp_gt (t := 87) Γ dX0_shift_64 (by decide) (fun c => ?_) (fun c => ?_)
            · replace eL5 := it_t c eL5
              refine A_iinc (v := x6 + 1) (lv' := [(3, .int (x6 + 1)), (2, .ref (xad X (120 + k3)))]) Γ dX0_shift_87 1 rfl rfl (by decide) rfl ?_
              refine A_goto (t := 19) Γ dX0_shift_90 (by decide) ?_
              exact A_sub [1, 0] rfl (ihL5 _ (lpc1 eL5 hqL5))
            · replace eL5 := it_f c eL5
              refine A_aload_n Γ dX0_shift_67 0 rfl ?_
              refine A_aload_n Γ dX0_shift_68 0 rfl ?_
              replace eL5 := b1 eL5
              obtain ⟨v13, e14, eL5⟩ := eL5
              refine gTX0_6 Γ Ξ (kTr_tD e4) rfl e14 dX0_shift_69 ?_
              refine A_iload_n Γ dX0_shift_72 1 rfl ?_
              refine A_iadd Γ dX0_shift_73 ?_
              replace eL5 := b1 eL5
              obtain ⟨n15, e16, eL5⟩ := eL5
              replace eL5 := b1 eL5
              obtain ⟨v17, e18, eL5⟩ := eL5
              refine kTX0_isLawful Γ Ξ (kTr_tD e4) rfl e16 hRm (by decide) (by decide) e18 (Nat.le_of_ble_eq_true rfl) dX0_shift_74 ?_
              refine A_if_eq (t := 87) Γ dX0_shift_77 (by decide) (fun c => ?_) (fun c => ?_)
              · replace eL5 := it_t c eL5
                refine A_iinc (v := x6 + 1) (lv' := [(3, .int (x6 + 1)), (2, .ref (xad X (120 + k3)))]) Γ dX0_shift_87 1 rfl rfl (by decide) rfl ?_
                refine A_goto (t := 19) Γ dX0_shift_90 (by decide) ?_
                exact A_sub [1, 0] rfl (ihL5 _ (lpc1 eL5 hqL5))
              · replace eL5 := it_f c eL5
                refine A_aload_n Γ dX0_shift_80 0 rfl ?_
                replace eL5 := b1 eL5
                obtain ⟨v19, e20, eL5⟩ := eL5
                refine gTX0_6 Γ Ξ (kTr_tD e4) rfl e20 dX0_shift_81 ?_
                refine A_iload_n Γ dX0_shift_84 1 rfl ?_
                refine A_iadd Γ dX0_shift_85 ?_
                have rL5 := hRtL5 _ (lpx1 eL5 hqL5).symm
                obtain rfl := inj1 rL5
                exact hret _ _ dX0_shift_86
          refine A_icmp_lt (t := 56) Γ dX0_shift_33 (by decide) (fun c => ?_) (fun c => ?_)
          · replace eL5 := it_t c eL5
            exact A_sub [0, 1] rfl (hKK10  eL5)
          · replace eL5 := it_f c eL5
            refine A_aload_n Γ dX0_shift_36 0 rfl ?_
            refine A_aload_n Γ dX0_shift_37 0 rfl ?_
            replace eL5 := b1 eL5
            obtain ⟨v21, e22, eL5⟩ := eL5
            refine gTX0_6 Γ Ξ (kTr_tD e4) rfl e22 dX0_shift_38 ?_
            refine A_iload_n Γ dX0_shift_41 1 rfl ?_
            refine A_isub Γ dX0_shift_42 ?_
            replace eL5 := b1 eL5
            obtain ⟨n23, e24, eL5⟩ := eL5
            replace eL5 := b1 eL5
            obtain ⟨v25, e26, eL5⟩ := eL5
            refine kTX0_isLawful Γ Ξ (kTr_tD e4) rfl e24 hRm (by decide) (by decide) e26 (Nat.le_of_ble_eq_true rfl) dX0_shift_43 ?_
            refine A_if_eq (t := 56) Γ dX0_shift_46 (by decide) (fun c => ?_) (fun c => ?_)
            · replace eL5 := it_t c eL5
              exact A_sub [0, 1] rfl (hKK10  eL5)
            · replace eL5 := it_f c eL5
              refine A_aload_n Γ dX0_shift_49 0 rfl ?_
              replace eL5 := b1 eL5
              obtain ⟨v27, e28, eL5⟩ := eL5
              refine gTX0_6 Γ Ξ (kTr_tD e4) rfl e28 dX0_shift_50 ?_
              refine A_iload_n Γ dX0_shift_53 1 rfl ?_
              refine A_isub Γ dX0_shift_54 ?_
              have rL5 := hRtL5 _ (lpx1 eL5 hqL5).symm
              obtain rfl := inj1 rL5
              exact hret _ _ dX0_shift_55
    exact A_sub [1, 0] rfl (hLL5 _ _ eLL5)
  · replace h := it_t c h
    refine A_iconst (v := (-1)) Γ dX0_shift_8 (by decide) ?_
    obtain rfl := inj1 h
    exact hret _ _ dX0_shift_9
theorem mtX0_shift (l : Launch) (X : Xw) {σ : St} {a1 : Int32} {r : Int32} (h : c_shift σ a1 = some r) : MetZ 0 l X yX0_shift cX0_shift 4 (some .int) 2 48 [.ref (xo X), .int a1] σ (some (.int r)) σ := MetZ.ofAt (by decide) (Nat.le_of_ble_eq_true rfl) (fun G _ Γ Ξ hR hret => wkX0_shift Γ Ξ hR h hret)

set_option maxHeartbeats 4000000 in
set_option maxRecDepth 100000 in
theorem wkX0_cold {G : Gx} {X : Xw} {σ σ' : St} {a1 : Int32} {a2 : Int32} {a3 : Int32} (Γ : Ok G RX0 cX0_cold 13) (Ξ : OkX 0 G X) (hRm : Rm G 2 43) {r : Int32} (h : c_cold σ a1 a2 a3 = some (r, σ')) (hret : ∀ (pc : Nat) (lv : List (Nat × Value)), retIs cX0_cold (some .int) (some (.int r)) pc → At G 13 σ' lv [.int r] pc) : At G 13 σ [(0, .ref (xo X)), (1, .int a1), (2, .int a2), (3, .int a3)] [] 0 := by
  rw [c_cold] at h
  refine A_aload_n Γ dX0_cold_0 0 rfl ?_
  refine A_iload_n Γ dX0_cold_1 1 rfl ?_
  replace h := b1 h
  obtain ⟨v2, e1, h⟩ := h
  refine kX0_X0isTrailer Γ Ξ hRm (by decide) (by decide) e1 (Nat.le_of_ble_eq_true rfl) dX0_cold_2 ?_
  refine A_if_eq (t := 24) Γ dX0_cold_5 (by decide) (fun c => ?_) (fun c => ?_)
  · replace h := it_t c h
    refine A_iconst (v := (-1)) Γ dX0_cold_24 (by decide) ?_
    obtain ⟨rfl, rfl⟩ := inj2 h
    exact hret _ _ dX0_cold_25
  · replace h := it_f c h
    refine A_iload_n Γ dX0_cold_8 2 rfl ?_
    replace h := b1 h
    obtain ⟨v4, e3, h⟩ := h
    refine kX0_X0isRow Γ (kpX Ξ) hRm (by decide) (by decide) e3 (Nat.le_of_ble_eq_true rfl) dX0_cold_9 ?_
    refine A_if_eq (t := 24) Γ dX0_cold_12 (by decide) (fun c => ?_) (fun c => ?_)
    · replace h := it_t c h
      refine A_iconst (v := (-1)) Γ dX0_cold_24 (by decide) ?_
      obtain ⟨rfl, rfl⟩ := inj2 h
      exact hret _ _ dX0_cold_25
    · replace h := it_f c h
      refine A_iload_n Γ dX0_cold_15 3 rfl ?_
      refine A_iconst (v := 0) Γ dX0_cold_16 (by decide) ?_
      refine A_iconst (v := 2) Γ dX0_cold_17 (by decide) ?_
      replace h := b1 h
      obtain ⟨v6, e5, h⟩ := h
      refine kX0_X0in Γ (kpX Ξ) hRm (by decide) (by decide) e5 (Nat.le_of_ble_eq_true rfl) dX0_cold_18 ?_
      refine A_if_ne (t := 26) Γ dX0_cold_21 (by decide) (fun c => ?_) (fun c => ?_)
      · replace h := it_f c h
        refine A_aload_n Γ dX0_cold_26 0 rfl ?_
        refine g0_18 Γ Ξ dX0_cold_27 ?_
        refine A_iload_n Γ dX0_cold_30 1 rfl ?_
        replace h := b1 h
        obtain ⟨k7, e8, h⟩ := h
        refine A_trsD Γ Ξ e8 dX0_cold_31 ?_
        refine A_astore (lv' := [(4, .ref (xad X (120 + k7))), (0, .ref (xo X)), (1, .int a1), (2, .int a2), (3, .int a3)]) Γ dX0_cold_32 (by decide) rfl ?_
        refine A_aload Γ dX0_cold_34 0 rfl ?_
        replace h := b1 h
        obtain ⟨n9, e10, h⟩ := h
        refine A_isCold Γ Ξ (kTr_tD e8) rfl e10 hRm (by decide) (by decide) (Nat.le_of_ble_eq_true rfl) dX0_cold_36 ?_
        refine A_if_ne (t := 50) Γ dX0_cold_41 (by decide) (fun c => ?_) (fun c => ?_)
        · replace h := it_f c h
          refine A_aload_n Γ dX0_cold_50 1 rfl ?_
          refine g0_5 Γ Ξ dX0_cold_51 ?_
          refine A_iload_n Γ dX0_cold_54 3 rfl ?_
          replace h := b1 h
          obtain ⟨k13, e14, h⟩ := h
          refine A_rows Γ Ξ e14 dX0_cold_55 ?_
          refine A_ifnonnull (t := 65) Γ dX0_cold_56 (by decide) (fun cn15 => ?_) (fun cn15 => ?_)
          · replace h := it_t cn15 h
            refine A_aload_n Γ dX0_cold_65 1 rfl ?_
            refine g0_18 Γ Ξ dX0_cold_66 ?_
            refine A_iload_n Γ dX0_cold_69 2 rfl ?_
            replace h := b1 h
            obtain ⟨k16, e17, h⟩ := h
            refine A_trsD Γ Ξ e17 dX0_cold_70 ?_
            replace h := b1 h
            obtain ⟨n18, e19, h⟩ := h
            refine A_ckC Γ Ξ (kTr_tD e17) rfl e19 dX0_cold_71 ?_
            refine A_astore (lv' := [(5, .ref (xad X (120 + k16))), (4, .ref (xad X (120 + k7))), (0, .ref (xo X)), (1, .int a1), (2, .int a2), (3, .int a3)]) Γ dX0_cold_74 (by decide) rfl ?_
            refine A_aload Γ dX0_cold_76 0 rfl ?_
            replace h := b1 h
            obtain ⟨σ24, e23, h⟩ := h
            refine A_look Γ Ξ (kTr_tD e17) rfl e23 hRm (by decide) (by decide) (Nat.le_of_ble_eq_true rfl) dX0_cold_78 ?_
            refine A_iconst (v := 0) Γ dX0_cold_81 (by decide) ?_
            refine A_istore (lv' := [(6, .int 0), (5, .ref (xad X (120 + k16))), (4, .ref (xad X (120 + k7))), (0, .ref (xo X)), (1, .int a1), (2, .int a2), (3, .int a3)]) Γ dX0_cold_82 (by decide) rfl ?_
            refine A_iconst (v := 0) Γ dX0_cold_84 (by decide) ?_
            refine A_istore (lv' := [(7, .int 0), (6, .int 0), (5, .ref (xad X (120 + k16))), (4, .ref (xad X (120 + k7))), (0, .ref (xo X)), (1, .int a1), (2, .int a2), (3, .int a3)]) Γ dX0_cold_85 (by decide) rfl ?_
            refine A_iconst (v := 0) Γ dX0_cold_87 (by decide) ?_
            refine A_istore (lv' := [(8, .int 0), (7, .int 0), (6, .int 0), (5, .ref (xad X (120 + k16))), (4, .ref (xad X (120 + k7))), (0, .ref (xo X)), (1, .int a1), (2, .int a2), (3, .int a3)]) Γ dX0_cold_88 (by decide) rfl ?_
            refine A_iconst (v := 0) Γ dX0_cold_90 (by decide) ?_
            refine A_istore (lv' := [(9, .int 0), (8, .int 0), (7, .int 0), (6, .int 0), (5, .ref (xad X (120 + k16))), (4, .ref (xad X (120 + k7))), (0, .ref (xo X)), (1, .int a1), (2, .int a2), (3, .int a3)]) Γ dX0_cold_91 (by decide) rfl ?_
            refine A_iconst (v := 0) Γ dX0_cold_93 (by decide) ?_
            refine A_istore (lv' := [(10, .int 0), (9, .int 0), (8, .int 0), (7, .int 0), (6, .int 0), (5, .ref (xad X (120 + k16))), (4, .ref (xad X (120 + k7))), (0, .ref (xo X)), (1, .int a1), (2, .int a2), (3, .int a3)]) Γ dX0_cold_94 (by decide) rfl ?_
            replace h := b3 h
            obtain ⟨x31, x32, x33, eLL25, h⟩ := h
            have hXL25 : At G 13 σ24 [(3, .int a3), (6, .int x31), (7, .int x32), (9, .int x33)] [] 224 := by
              refine A_bipush (v := 10) Γ dX0_cold_224 (by decide) ?_
              refine A_iload_n Γ dX0_cold_226 0 rfl ?_
              replace h := b1 h
              obtain ⟨x61, eJ60, h⟩ := h
              have hJJ60 : At G 13 σ24 [] [.int x61, .int 10] 250 := by
                refine A_imul Γ dX0_cold_250 ?_
                obtain ⟨rfl, rfl⟩ := inj2 h
                exact hret _ _ dX0_cold_251
              refine A_if_ne (t := 235) Γ dX0_cold_227 (by decide) (fun c => ?_) (fun c => ?_)
              · replace eJ60 := it_f c eJ60
                refine A_iload_n Γ dX0_cold_235 0 rfl ?_
                refine A_iconst (v := 1) Γ dX0_cold_236 (by decide) ?_
                refine A_icmp_ne (t := 248) Γ dX0_cold_237 (by decide) (fun c => ?_) (fun c => ?_)
                · replace eJ60 := it_f c eJ60
                  refine A_iload Γ dX0_cold_248 3 rfl ?_
                  obtain rfl := inj1 eJ60
                  exact A_sub [] rfl hJJ60
                · replace eJ60 := it_t c eJ60
                  refine A_iload Γ dX0_cold_240 1 rfl ?_
                  refine A_iload Γ dX0_cold_242 2 rfl ?_
                  refine A_iadd Γ dX0_cold_244 ?_
                  refine A_goto (t := 250) Γ dX0_cold_245 (by decide) ?_
                  obtain rfl := inj1 eJ60
                  exact A_sub [] rfl hJJ60
              · replace eJ60 := it_t c eJ60
                refine A_iload Γ dX0_cold_230 1 rfl ?_
                refine A_goto (t := 250) Γ dX0_cold_232 (by decide) ?_
                obtain rfl := inj1 eJ60
                exact A_sub [] rfl hJJ60
            replace eLL25 := lq5_ex eLL25
            obtain ⟨nL25, eLL25⟩ := eLL25
            have hLL25 : ∀ (nL25 : Nat) (x26 : Int32) (x27 : Int32) (x28 : Int32) (x29 : Int32) (x30 : Int32), lpf5 (c_cold_L25 a2 k16 σ24) nL25 x26 x27 x28 x29 x30 = some (x31, x32, x33) → At G 13 σ24 [(0, .ref (xo X)), (2, .int a2), (3, .int a3), (5, .ref (xad X (120 + k16))), (6, .int x26), (7, .int x27), (8, .int x28), (9, .int x29), (10, .int x30)] [] 96 := by
              intro nL25
              induction nL25 with
              | zero => intro x26 x27 x28 x29 x30 eL25; exact (lpf5_0 eL25).elim
              | succ nL25 ihL25 =>
                intro x26 x27 x28 x29 x30 eL25
                replace eL25 := lpf5_s eL25
                obtain ⟨qL25, eL25, hqL25⟩ := eL25
                rw [c_cold_L25] at eL25
                refine A_iload Γ dX0_cold_96 8 rfl ?_
                refine A_aload_n Γ dX0_cold_98 0 rfl ?_
                refine g0_5 Γ Ξ dX0_cold_99 ?_
                refine A_iload_n Γ dX0_cold_102 1 rfl ?_
                replace eL25 := b1 eL25
                obtain ⟨k34, e35, eL25⟩ := eL25
                refine A_rowsD Γ Ξ e35 dX0_cold_103 ?_
                replace eL25 := b1 eL25
                obtain ⟨n36, e37, eL25⟩ := eL25
                refine A_alenD Γ Ξ (Or.inl (kInt_rowD e35)) rfl e37 dX0_cold_104 ?_
                refine A_icmp_ge (t := 224) Γ dX0_cold_105 (by decide) (fun c => ?_) (fun c => ?_)
                · replace eL25 := it_t c eL25
                  obtain ⟨rfl, rfl, rfl⟩ := pr3 (lpx5 eL25 hqL25)
                  exact A_sub [2, 4, 5, 7] rfl hXL25
                · replace eL25 := it_f c eL25
                  refine A_aload_n Γ dX0_cold_108 0 rfl ?_
                  refine g0_5 Γ Ξ dX0_cold_109 ?_
                  refine A_iload_n Γ dX0_cold_112 1 rfl ?_
                  replace eL25 := b1 eL25
                  obtain ⟨k38, e39, eL25⟩ := eL25
                  refine A_rowsD Γ Ξ e39 dX0_cold_113 ?_
                  refine A_iload Γ dX0_cold_114 8 rfl ?_
                  replace eL25 := b1 eL25
                  obtain ⟨v40, e41, eL25⟩ := eL25
                  refine A_aldD Γ Ξ (kInt_rowD e39) rfl e41 dX0_cold_116 ?_
                  refine A_sipush (v := (-999)) Γ dX0_cold_117 (by decide) ?_
                  replace eL25 := b1 eL25
                  obtain ⟨x43, eJ42, eL25⟩ := eL25
                  have hJJ42 : At G 13 σ24 [(0, .ref (xo X)), (2, .int a2), (3, .int a3), (5, .ref (xad X (120 + k16))), (6, .int x26), (7, .int x27), (8, .int x28), (9, .int x29), (10, .int x30)] [.int x43] 128 := by
                    refine A_istore (lv' := [(11, .int x43), (0, .ref (xo X)), (2, .int a2), (3, .int a3), (5, .ref (xad X (120 + k16))), (6, .int x26), (7, .int x27), (8, .int x28), (9, .int x29), (10, .int x30)]) Γ dX0_cold_128 (by decide) rfl ?_
                    refine A_iload Γ dX0_cold_130 0 rfl ?_
                    replace eL25 := b1 eL25
                    obtain ⟨x45, eJ44, eL25⟩ := eL25
                    have hJJ44 : At G 13 σ24 [(0, .ref (xo X)), (2, .int a2), (3, .int a3), (5, .ref (xad X (120 + k16))), (6, .int x26), (7, .int x27), (8, .int x28), (9, .int x29), (10, .int x30), (11, .int x43)] [.int x45] 157 := by
                      refine A_istore (lv' := [(12, .int x45), (0, .ref (xo X)), (2, .int a2), (3, .int a3), (5, .ref (xad X (120 + k16))), (6, .int x26), (7, .int x27), (8, .int x28), (9, .int x29), (10, .int x30), (11, .int x43)]) Γ dX0_cold_157 (by decide) rfl ?_
                      refine A_iload Γ dX0_cold_159 5 rfl ?_
                      refine A_iload Γ dX0_cold_161 0 rfl ?_
                      replace eL25 := b1 eL25
                      obtain ⟨x53, eJ52, eL25⟩ := eL25
                      have hJJ52 : At G 13 σ24 [(0, .ref (xo X)), (2, .int a2), (3, .int a3), (5, .ref (xad X (120 + k16))), (7, .int x27), (8, .int x28), (9, .int x29), (10, .int x30), (11, .int x43), (12, .int x45)] [.int x53, .int x26] 171 := by
                        refine A_iadd Γ dX0_cold_171 ?_
                        refine A_istore (lv' := [(6, .int (x26 + x53)), (0, .ref (xo X)), (2, .int a2), (3, .int a3), (5, .ref (xad X (120 + k16))), (7, .int x27), (8, .int x28), (9, .int x29), (10, .int x30), (11, .int x43), (12, .int x45)]) Γ dX0_cold_172 (by decide) rfl ?_
                        refine A_iload Γ dX0_cold_174 5 rfl ?_
                        refine A_iload Γ dX0_cold_176 9 rfl ?_
                        replace eL25 := b1 eL25
                        obtain ⟨x55, eJ54, eL25⟩ := eL25
                        have hJJ54 : At G 13 σ24 [(0, .ref (xo X)), (2, .int a2), (3, .int a3), (5, .ref (xad X (120 + k16))), (6, .int (x26 + x53)), (8, .int x28), (9, .int x29), (10, .int x30), (11, .int x43), (12, .int x45)] [.int x55, .int x27] 186 := by
                          refine A_iadd Γ dX0_cold_186 ?_
                          refine A_istore (lv' := [(7, .int (x27 + x55)), (0, .ref (xo X)), (2, .int a2), (3, .int a3), (5, .ref (xad X (120 + k16))), (6, .int (x26 + x53)), (8, .int x28), (9, .int x29), (10, .int x30), (11, .int x43), (12, .int x45)]) Γ dX0_cold_187 (by decide) rfl ?_
                          refine A_iload Γ dX0_cold_189 10 rfl ?_
                          replace eL25 := b1 eL25
                          obtain ⟨x57, eJ56, eL25⟩ := eL25
                          have hJJ56 : At G 13 σ24 [(0, .ref (xo X)), (2, .int a2), (3, .int a3), (5, .ref (xad X (120 + k16))), (6, .int (x26 + x53)), (7, .int (x27 + x55)), (9, .int x29), (10, .int x30)] [.int x57] 207 := by
                            refine A_istore (lv' := [(8, .int x57), (0, .ref (xo X)), (2, .int a2), (3, .int a3), (5, .ref (xad X (120 + k16))), (6, .int (x26 + x53)), (7, .int (x27 + x55)), (9, .int x29), (10, .int x30)]) Γ dX0_cold_207 (by decide) rfl ?_
                            refine A_iload Γ dX0_cold_209 7 rfl ?_
                            refine A_iload Γ dX0_cold_211 0 rfl ?_
                            replace eL25 := b1 eL25
                            obtain ⟨v59, e58, eL25⟩ := eL25
                            refine kX0_J8max Γ (kpX Ξ) hRm (by decide) (by decide) e58 (Nat.le_of_ble_eq_true rfl) dX0_cold_213 ?_
                            refine A_istore (lv' := [(9, .int v59), (8, .int x57), (0, .ref (xo X)), (2, .int a2), (3, .int a3), (5, .ref (xad X (120 + k16))), (6, .int (x26 + x53)), (7, .int (x27 + x55)), (10, .int x30)]) Γ dX0_cold_216 (by decide) rfl ?_
                            refine A_iinc (v := x30 + 1) (lv' := [(10, .int (x30 + 1)), (9, .int v59), (8, .int x57), (0, .ref (xo X)), (2, .int a2), (3, .int a3), (5, .ref (xad X (120 + k16))), (6, .int (x26 + x53)), (7, .int (x27 + x55))]) Γ dX0_cold_218 8 rfl rfl (by decide) rfl ?_
                            refine A_goto (t := 96) Γ dX0_cold_221 (by decide) ?_
                            exact A_sub [3, 4, 5, 6, 7, 8, 2, 1, 0] rfl (ihL25 _ _ _ _ _ (lpc5 eL25 hqL25))
                          refine A_if_ne (t := 199) Γ dX0_cold_191 (by decide) (fun c => ?_) (fun c => ?_)
                          · replace eJ56 := it_f c eJ56
                            refine A_iload Γ dX0_cold_199 6 rfl ?_
                            refine A_iconst (v := 1) Γ dX0_cold_201 (by decide) ?_
                            refine A_iadd Γ dX0_cold_202 ?_
                            refine A_goto (t := 207) Γ dX0_cold_203 (by decide) ?_
                            obtain rfl := inj1 eJ56
                            exact A_sub [1, 2, 3, 4, 5, 0, 7, 8] rfl hJJ56
                          · replace eJ56 := it_t c eJ56
                            refine A_iload Γ dX0_cold_194 9 rfl ?_
                            refine A_if_eq (t := 206) Γ dX0_cold_196 (by decide) (fun c => ?_) (fun c => ?_)
                            · replace eJ56 := it_t c eJ56
                              refine A_iconst (v := 0) Γ dX0_cold_206 (by decide) ?_
                              obtain rfl := inj1 eJ56
                              exact A_sub [1, 2, 3, 4, 5, 0, 7, 8] rfl hJJ56
                            · replace eJ56 := it_f c eJ56
                              refine A_iload Γ dX0_cold_199 6 rfl ?_
                              refine A_iconst (v := 1) Γ dX0_cold_201 (by decide) ?_
                              refine A_iadd Γ dX0_cold_202 ?_
                              refine A_goto (t := 207) Γ dX0_cold_203 (by decide) ?_
                              obtain rfl := inj1 eJ56
                              exact A_sub [1, 2, 3, 4, 5, 0, 7, 8] rfl hJJ56
                        refine A_if_eq (t := 185) Γ dX0_cold_178 (by decide) (fun c => ?_) (fun c => ?_)
                        · replace eJ54 := it_t c eJ54
                          refine A_iconst (v := 0) Γ dX0_cold_185 (by decide) ?_
                          obtain rfl := inj1 eJ54
                          exact A_sub [1, 2, 3, 4, 0, 6, 7, 8, 9, 10] rfl hJJ54
                        · replace eJ54 := it_f c eJ54
                          refine A_iconst (v := 1) Γ dX0_cold_181 (by decide) ?_
                          refine A_goto (t := 186) Γ dX0_cold_182 (by decide) ?_
                          obtain rfl := inj1 eJ54
                          exact A_sub [1, 2, 3, 4, 0, 6, 7, 8, 9, 10] rfl hJJ54
                      refine A_if_eq (t := 170) Γ dX0_cold_163 (by decide) (fun c => ?_) (fun c => ?_)
                      · replace eJ52 := it_t c eJ52
                        refine A_iconst (v := 0) Γ dX0_cold_170 (by decide) ?_
                        obtain rfl := inj1 eJ52
                        exact A_sub [1, 2, 3, 4, 6, 7, 8, 9, 10, 0] rfl hJJ52
                      · replace eJ52 := it_f c eJ52
                        refine A_iconst (v := 1) Γ dX0_cold_166 (by decide) ?_
                        refine A_goto (t := 171) Γ dX0_cold_167 (by decide) ?_
                        obtain rfl := inj1 eJ52
                        exact A_sub [1, 2, 3, 4, 6, 7, 8, 9, 10, 0] rfl hJJ52
                    refine A_if_ne (t := 156) Γ dX0_cold_132 (by decide) (fun c => ?_) (fun c => ?_)
                    · replace eJ44 := it_f c eJ44
                      refine A_iconst (v := 0) Γ dX0_cold_156 (by decide) ?_
                      obtain rfl := inj1 eJ44
                      exact A_sub [1, 2, 3, 4, 5, 6, 7, 8, 9, 0] rfl hJJ44
                    · replace eJ44 := it_t c eJ44
                      refine A_aload_n Γ dX0_cold_135 1 rfl ?_
                      refine g0_5 Γ Ξ dX0_cold_136 ?_
                      refine A_iload_n Γ dX0_cold_139 2 rfl ?_
                      replace eJ44 := b1 eJ44
                      obtain ⟨k46, e47, eJ44⟩ := eJ44
                      refine A_rowsD Γ Ξ e47 dX0_cold_140 ?_
                      refine A_iload Γ dX0_cold_141 9 rfl ?_
                      replace eJ44 := b1 eJ44
                      obtain ⟨v48, e49, eJ44⟩ := eJ44
                      refine A_aldD Γ Ξ (kInt_rowD e47) rfl e49 dX0_cold_143 ?_
                      refine A_aload Γ dX0_cold_144 4 rfl ?_
                      replace eJ44 := b1 eJ44
                      obtain ⟨v50, e51, eJ44⟩ := eJ44
                      refine gTX0_11 Γ Ξ (kTr_tD e17) rfl e51 dX0_cold_146 ?_
                      refine A_icmp_le (t := 156) Γ dX0_cold_149 (by decide) (fun c => ?_) (fun c => ?_)
                      · replace eJ44 := it_t c eJ44
                        refine A_iconst (v := 0) Γ dX0_cold_156 (by decide) ?_
                        obtain rfl := inj1 eJ44
                        exact A_sub [1, 2, 3, 4, 5, 6, 7, 8, 9, 0] rfl hJJ44
                      · replace eJ44 := it_f c eJ44
                        refine A_iconst (v := 1) Γ dX0_cold_152 (by decide) ?_
                        refine A_goto (t := 157) Γ dX0_cold_153 (by decide) ?_
                        obtain rfl := inj1 eJ44
                        exact A_sub [1, 2, 3, 4, 5, 6, 7, 8, 9, 0] rfl hJJ44
                  refine A_icmp_ne (t := 127) Γ dX0_cold_120 (by decide) (fun c => ?_) (fun c => ?_)
                  · replace eJ42 := it_f c eJ42
                    refine A_iconst (v := 0) Γ dX0_cold_127 (by decide) ?_
                    obtain rfl := inj1 eJ42
                    exact A_sub [0, 1, 2, 3, 4, 5, 6, 7, 8] rfl hJJ42
                  · replace eJ42 := it_t c eJ42
                    refine A_iconst (v := 1) Γ dX0_cold_123 (by decide) ?_
                    refine A_goto (t := 128) Γ dX0_cold_124 (by decide) ?_
                    obtain rfl := inj1 eJ42
                    exact A_sub [0, 1, 2, 3, 4, 5, 6, 7, 8] rfl hJJ42
            exact A_sub [7, 9, 10, 5, 4, 3, 2, 1, 0] rfl (hLL25 _ _ _ _ _ _ eLL25)
          · replace h := it_f cn15 h
            refine A_aload_n Γ dX0_cold_59 1 rfl ?_
            refine A_iconst (v := 1) Γ dX0_cold_60 (by decide) ?_
            replace h := b2 h
            obtain ⟨v63, σ64, e62, h⟩ := h
            refine kX0_X0found Γ Ξ hRm (by decide) (by decide) e62 (Nat.le_of_ble_eq_true rfl) dX0_cold_61 ?_
            obtain ⟨rfl, rfl⟩ := inj2 h
            exact hret _ _ dX0_cold_64
        · replace h := it_t c h
          refine A_aload_n Γ dX0_cold_44 1 rfl ?_
          refine A_iconst (v := 3) Γ dX0_cold_45 (by decide) ?_
          replace h := b2 h
          obtain ⟨v66, σ67, e65, h⟩ := h
          refine kX0_X0found Γ Ξ hRm (by decide) (by decide) e65 (Nat.le_of_ble_eq_true rfl) dX0_cold_46 ?_
          obtain ⟨rfl, rfl⟩ := inj2 h
          exact hret _ _ dX0_cold_49
      · replace h := it_t c h
        refine A_iconst (v := (-1)) Γ dX0_cold_24 (by decide) ?_
        obtain ⟨rfl, rfl⟩ := inj2 h
        exact hret _ _ dX0_cold_25
theorem mtX0_cold (l : Launch) (X : Xw) {σ σ' : St} {a1 : Int32} {a2 : Int32} {a3 : Int32} {r : Int32} (h : c_cold σ a1 a2 a3 = some (r, σ')) : MetZ 0 l X yX0_cold cX0_cold 13 (some .int) 2 43 [.ref (xo X), .int a1, .int a2, .int a3] σ (some (.int r)) σ' := MetZ.ofAt (by decide) (Nat.le_of_ble_eq_true rfl) (fun G _ Γ Ξ hR hret => wkX0_cold Γ Ξ hR h hret)

set_option maxHeartbeats 4000000 in
set_option maxRecDepth 100000 in
theorem wkX0_entryAhead {G : Gx} {X : Xw} {σ : St} {a1 : Int32} {a2 : Int32} {a3 : Int32} {a4 : Int32} (Γ : Ok G RX0 cX0_entryAhead 6) (Ξ : OkX 0 G X) (hRm : Rm G 0 0) {r : Int32} (h : c_entryAhead σ a1 a2 a3 a4 = some r) (hret : ∀ (pc : Nat) (lv : List (Nat × Value)), retIs cX0_entryAhead (some .int) (some (.int r)) pc → At G 6 σ lv [.int r] pc) : At G 6 σ [(0, .ref (xo X)), (1, .int a1), (2, .int a2), (3, .int a3), (4, .int a4)] [] 0 := by
  rw [c_entryAhead] at h
  refine A_iload_n Γ dX0_entryAhead_0 2 rfl ?_
  refine A_iconst (v := 1) Γ dX0_entryAhead_1 (by decide) ?_
  refine A_isub Γ dX0_entryAhead_2 ?_
  refine A_istore (lv' := [(5, .int (a2 - 1)), (0, .ref (xo X)), (1, .int a1), (2, .int a2), (3, .int a3), (4, .int a4)]) Γ dX0_entryAhead_3 (by decide) rfl ?_
  replace h := b1 h
  obtain ⟨x3, eLL1, h⟩ := h
  have hXL1 : At G 6 σ [(5, .int x3)] [] 50 := by
    refine A_iload Γ dX0_entryAhead_50 0 rfl ?_
    replace h := b1 h
    obtain ⟨x11, eJ10, h⟩ := h
    have hJJ10 : At G 6 σ [] [.int x11] 62 := by
      obtain rfl := inj1 h
      exact hret _ _ dX0_entryAhead_62
    refine A_if_ge (t := 60) Γ dX0_entryAhead_52 (by decide) (fun c => ?_) (fun c => ?_)
    · replace eJ10 := it_t c eJ10
      refine A_iload Γ dX0_entryAhead_60 0 rfl ?_
      obtain rfl := inj1 eJ10
      exact A_sub [] rfl hJJ10
    · replace eJ10 := it_f c eJ10
      refine A_bipush (v := (-9)) Γ dX0_entryAhead_55 (by decide) ?_
      refine A_goto (t := 62) Γ dX0_entryAhead_57 (by decide) ?_
      obtain rfl := inj1 eJ10
      exact A_sub [] rfl hJJ10
  replace eLL1 := lq1_ex eLL1
  obtain ⟨nL1, eLL1⟩ := eLL1
  have hLL1 : ∀ (nL1 : Nat) (x2 : Int32), lpf1 (c_entryAhead_L1 σ a1 a3 a4) nL1 x2 = some x3 → At G 6 σ [(0, .ref (xo X)), (1, .int a1), (3, .int a3), (4, .int a4), (5, .int x2)] [] 5 := by
    intro nL1
    induction nL1 with
    | zero => intro x2 eL1; exact (lpf1_0 eL1).elim
    | succ nL1 ihL1 =>
      intro x2 eL1
      replace eL1 := lpf1_s eL1
      obtain ⟨qL1, eL1, hqL1⟩ := eL1
      rw [c_entryAhead_L1] at eL1
      refine A_iload Γ dX0_entryAhead_5 4 rfl ?_
      refine A_if_lt (t := 50) Γ dX0_entryAhead_7 (by decide) (fun c => ?_) (fun c => ?_)
      · replace eL1 := it_t c eL1
        obtain rfl := pr1 (lpx1 eL1 hqL1)
        exact A_sub [4] rfl hXL1
      · replace eL1 := it_f c eL1
        refine A_aload_n Γ dX0_entryAhead_10 0 rfl ?_
        refine g0_23 Γ Ξ dX0_entryAhead_11 ?_
        refine A_iload Γ dX0_entryAhead_14 4 rfl ?_
        replace eL1 := b1 eL1
        obtain ⟨v4, e5, eL1⟩ := eL1
        refine r0_23 Γ Ξ e5 dX0_entryAhead_16 ?_
        refine A_iload_n Γ dX0_entryAhead_17 1 rfl ?_
        refine A_icmp_ne (t := 44) Γ dX0_entryAhead_18 (by decide) (fun c => ?_) (fun c => ?_)
        · replace eL1 := it_f c eL1
          refine A_iinc (v := x2 + (-1)) (lv' := [(5, .int (x2 + (-1))), (0, .ref (xo X)), (1, .int a1), (3, .int a3), (4, .int a4)]) Γ dX0_entryAhead_44 4 rfl rfl (by decide) rfl ?_
          refine A_goto (t := 5) Γ dX0_entryAhead_47 (by decide) ?_
          exact A_sub [1, 2, 3, 4, 0] rfl (ihL1 _ (lpc1 eL1 hqL1))
        · replace eL1 := it_t c eL1
          refine A_aload_n Γ dX0_entryAhead_21 0 rfl ?_
          refine g0_24 Γ Ξ dX0_entryAhead_22 ?_
          refine A_iload Γ dX0_entryAhead_25 4 rfl ?_
          replace eL1 := b1 eL1
          obtain ⟨v6, e7, eL1⟩ := eL1
          refine r0_24 Γ Ξ e7 dX0_entryAhead_27 ?_
          refine A_iload_n Γ dX0_entryAhead_28 2 rfl ?_
          refine A_icmp_eq (t := 50) Γ dX0_entryAhead_29 (by decide) (fun c => ?_) (fun c => ?_)
          · replace eL1 := it_t c eL1
            obtain rfl := pr1 (lpx1 eL1 hqL1)
            exact A_sub [4] rfl hXL1
          · replace eL1 := it_f c eL1
            refine A_aload_n Γ dX0_entryAhead_32 0 rfl ?_
            refine g0_24 Γ Ξ dX0_entryAhead_33 ?_
            refine A_iload Γ dX0_entryAhead_36 4 rfl ?_
            replace eL1 := b1 eL1
            obtain ⟨v8, e9, eL1⟩ := eL1
            refine r0_24 Γ Ξ e9 dX0_entryAhead_38 ?_
            refine A_iload Γ dX0_entryAhead_39 3 rfl ?_
            refine A_icmp_eq (t := 50) Γ dX0_entryAhead_41 (by decide) (fun c => ?_) (fun c => ?_)
            · replace eL1 := it_t c eL1
              obtain rfl := pr1 (lpx1 eL1 hqL1)
              exact A_sub [4] rfl hXL1
            · replace eL1 := it_f c eL1
              refine A_iinc (v := x2 + (-1)) (lv' := [(5, .int (x2 + (-1))), (0, .ref (xo X)), (1, .int a1), (3, .int a3), (4, .int a4)]) Γ dX0_entryAhead_44 4 rfl rfl (by decide) rfl ?_
              refine A_goto (t := 5) Γ dX0_entryAhead_47 (by decide) ?_
              exact A_sub [1, 2, 3, 4, 0] rfl (ihL1 _ (lpc1 eL1 hqL1))
  exact A_sub [1, 2, 4, 5, 0] rfl (hLL1 _ _ eLL1)
theorem mtX0_entryAhead (l : Launch) (X : Xw) {σ : St} {a1 : Int32} {a2 : Int32} {a3 : Int32} {a4 : Int32} {r : Int32} (h : c_entryAhead σ a1 a2 a3 a4 = some r) : MetZ 0 l X yX0_entryAhead cX0_entryAhead 6 (some .int) 0 0 [.ref (xo X), .int a1, .int a2, .int a3, .int a4] σ (some (.int r)) σ := MetZ.ofAt (by decide) (Nat.le_of_ble_eq_true rfl) (fun G _ Γ Ξ hR hret => wkX0_entryAhead Γ Ξ hR h hret)
theorem kX0_X0entryAhead {G : Gx} {X : Xw} {cc : ByteArray} {nL pc F LO : Nat} {σ : St} {lv : List (Nat × Value)} {st : List Value} (Γ : Ok G RX0 cc nL) (Ξ : OkX 0 G X) {a1 : Int32} {a2 : Int32} {a3 : Int32} {a4 : Int32} {r : Int32} (hRm : Rm G F LO) (hf : 0 + 1 ≤ F) (hlo : 8 + (6 + 11) + 0 ≤ LO) (h : c_entryAhead σ a1 a2 a3 a4 = some r) (hW : (st.map fun v => v.category).sum ≤ 8) (d : decode cc pc = .ok (.invokevirtual 374, 3)) (kk : At G nL σ lv (.int r :: st) (pc + 3)) : At G nL σ lv (.int a4 :: .int a3 :: .int a2 :: .int a1 :: .ref (xo X) :: st) pc := A_callV Γ Ξ rfl rfl (mtX0_entryAhead (gl G) X h) (lw_V q931 q933 qs16 q63 q934) (n := 4) (by decide +kernel) (rm_ok hRm hf hlo) (rm_k hRm) rfl rfl hW d kk
set_option maxHeartbeats 4000000 in
set_option maxRecDepth 100000 in
theorem wkX0_theft {G : Gx} {X : Xw} {σ σ' : St} {a1 : Int32} (Γ : Ok G RX0 cX0_theft 4) (Ξ : OkX 0 G X) (hRm : Rm G 2 43) {r : Int32} (h : c_theft σ a1 = some (r, σ')) (hret : ∀ (pc : Nat) (lv : List (Nat × Value)), retIs cX0_theft (some .int) (some (.int r)) pc → At G 4 σ' lv [.int r] pc) : At G 4 σ [(0, .ref (xo X)), (1, .int a1)] [] 0 := by
  rw [c_theft] at h
  refine A_aload_n Γ dX0_theft_0 0 rfl ?_
  refine A_iload_n Γ dX0_theft_1 1 rfl ?_
  replace h := b1 h
  obtain ⟨v2, e1, h⟩ := h
  refine kX0_X0isTrailer Γ Ξ hRm (by decide) (by decide) e1 (Nat.le_of_ble_eq_true rfl) dX0_theft_2 ?_
  refine A_if_ne (t := 10) Γ dX0_theft_5 (by decide) (fun c => ?_) (fun c => ?_)
  · replace h := it_f c h
    refine A_aload_n Γ dX0_theft_10 0 rfl ?_
    refine A_iload_n Γ dX0_theft_11 1 rfl ?_
    refine A_aload_n Γ dX0_theft_12 0 rfl ?_
    refine g0_22 Γ Ξ dX0_theft_13 ?_
    refine A_iconst (v := 5) Γ dX0_theft_16 (by decide) ?_
    refine A_iconst (v := 5) Γ dX0_theft_17 (by decide) ?_
    replace h := b1 h
    obtain ⟨v4, e3, h⟩ := h
    refine kX0_X0entryAhead Γ Ξ hRm (by decide) (by decide) e3 (Nat.le_of_ble_eq_true rfl) dX0_theft_18 ?_
    refine A_istore_n (lv' := [(2, .int v4), (0, .ref (xo X)), (1, .int a1)]) Γ dX0_theft_21 (by decide) rfl ?_
    refine A_iload_n Γ dX0_theft_22 0 rfl ?_
    refine A_bipush (v := (-9)) Γ dX0_theft_23 (by decide) ?_
    refine A_icmp_ne (t := 31) Γ dX0_theft_25 (by decide) (fun c => ?_) (fun c => ?_)
    · replace h := it_f c h
      refine A_aload_n Γ dX0_theft_31 1 rfl ?_
      refine A_iload_n Γ dX0_theft_32 2 rfl ?_
      refine A_iload_n Γ dX0_theft_33 0 rfl ?_
      refine A_iconst (v := 3) Γ dX0_theft_34 (by decide) ?_
      refine A_iconst (v := 4) Γ dX0_theft_35 (by decide) ?_
      replace h := b1 h
      obtain ⟨v6, e5, h⟩ := h
      refine kX0_X0entryAhead Γ Ξ hRm (by decide) (by decide) e5 (Nat.le_of_ble_eq_true rfl) dX0_theft_36 ?_
      refine A_istore_n (lv' := [(3, .int v6), (2, .int v4), (0, .ref (xo X)), (1, .int a1)]) Γ dX0_theft_39 (by decide) rfl ?_
      refine A_aload_n Γ dX0_theft_40 2 rfl ?_
      refine A_aload_n Γ dX0_theft_41 2 rfl ?_
      refine g0_25 Γ Ξ dX0_theft_42 ?_
      refine A_iload_n Γ dX0_theft_45 0 rfl ?_
      replace h := b1 h
      obtain ⟨v7, e8, h⟩ := h
      refine r0_25 Γ Ξ e8 dX0_theft_46 ?_
      refine A_aload_n Γ dX0_theft_47 2 rfl ?_
      refine g0_25 Γ Ξ dX0_theft_48 ?_
      refine A_iload_n Γ dX0_theft_51 1 rfl ?_
      replace h := b1 h
      obtain ⟨v9, e10, h⟩ := h
      refine r0_25 Γ Ξ e10 dX0_theft_52 ?_
      refine A_aload_n Γ dX0_theft_53 2 rfl ?_
      refine g0_25 Γ Ξ dX0_theft_54 ?_
      refine A_iload_n Γ dX0_theft_57 0 rfl ?_
      replace h := b1 h
      obtain ⟨v11, e12, h⟩ := h
      refine r0_25 Γ Ξ e12 dX0_theft_58 ?_
      refine A_isub Γ dX0_theft_59 ?_
      replace h := b2 h
      obtain ⟨v14, σ15, e13, h⟩ := h
      refine kX0_X0say Γ Ξ hRm (by decide) (by decide) e13 (Nat.le_of_ble_eq_true rfl) dX0_theft_60 ?_
      obtain ⟨rfl, rfl⟩ := inj2 h
      exact hret _ _ dX0_theft_63
    · replace h := it_t c h
      refine A_bipush (v := (-4)) Γ dX0_theft_28 (by decide) ?_
      obtain ⟨rfl, rfl⟩ := inj2 h
      exact hret _ _ dX0_theft_30
  · replace h := it_t c h
    refine A_iconst (v := (-1)) Γ dX0_theft_8 (by decide) ?_
    obtain ⟨rfl, rfl⟩ := inj2 h
    exact hret _ _ dX0_theft_9
theorem mtX0_theft (l : Launch) (X : Xw) {σ σ' : St} {a1 : Int32} {r : Int32} (h : c_theft σ a1 = some (r, σ')) : MetZ 0 l X yX0_theft cX0_theft 4 (some .int) 2 43 [.ref (xo X), .int a1] σ (some (.int r)) σ' := MetZ.ofAt (by decide) (Nat.le_of_ble_eq_true rfl) (fun G _ Γ Ξ hR hret => wkX0_theft Γ Ξ hR h hret)

set_option maxHeartbeats 4000000 in
set_option maxRecDepth 100000 in
theorem wkX0_handOf {G : Gx} {X : Xw} {σ : St} {a1 : Int32} (Γ : Ok G RX0 cX0_handOf 2) (Ξ : OkX 0 G X) (hRm : Rm G 0 0) {r : Int32} (h : c_handOf σ a1 = some r) (hret : ∀ (pc : Nat) (lv : List (Nat × Value)), retIs cX0_handOf (some .int) (some (.int r)) pc → At G 2 σ lv [.int r] pc) : At G 2 σ [(0, .ref (xo X)), (1, .int a1)] [] 0 := by
  rw [c_handOf] at h
  refine A_aload_n Γ dX0_handOf_0 0 rfl ?_
  refine g0_24 Γ Ξ dX0_handOf_1 ?_
  refine A_iload_n Γ dX0_handOf_4 1 rfl ?_
  replace h := b1 h
  obtain ⟨v1, e2, h⟩ := h
  refine r0_24 Γ Ξ e2 dX0_handOf_5 ?_
  replace h := b1 h
  obtain ⟨x4, eJ3, h⟩ := h
  have hJJ3 : At G 2 σ [] [.int x4] 31 := by
    obtain rfl := inj1 h
    exact hret _ _ dX0_handOf_31
  refine A_if_ne (t := 20) Γ dX0_handOf_6 (by decide) (fun c => ?_) (fun c => ?_)
  · replace eJ3 := it_f c eJ3
    refine A_iconst (v := 1) Γ dX0_handOf_20 (by decide) ?_
    refine A_bipush (v := 8) Γ dX0_handOf_21 (by decide) ?_
    refine A_aload_n Γ dX0_handOf_23 0 rfl ?_
    refine g0_26 Γ Ξ dX0_handOf_24 ?_
    refine A_iload_n Γ dX0_handOf_27 1 rfl ?_
    replace eJ3 := b1 eJ3
    obtain ⟨v5, e6, eJ3⟩ := eJ3
    refine r0_26 Γ Ξ e6 dX0_handOf_28 ?_
    refine A_iadd Γ dX0_handOf_29 ?_
    refine A_ishl Γ dX0_handOf_30 ?_
    obtain rfl := inj1 eJ3
    exact A_sub [] rfl hJJ3
  · replace eJ3 := it_t c eJ3
    refine A_iconst (v := 1) Γ dX0_handOf_9 (by decide) ?_
    refine A_aload_n Γ dX0_handOf_10 0 rfl ?_
    refine g0_26 Γ Ξ dX0_handOf_11 ?_
    refine A_iload_n Γ dX0_handOf_14 1 rfl ?_
    replace eJ3 := b1 eJ3
    obtain ⟨v7, e8, eJ3⟩ := eJ3
    refine r0_26 Γ Ξ e8 dX0_handOf_15 ?_
    refine A_ishl Γ dX0_handOf_16 ?_
    refine A_goto (t := 31) Γ dX0_handOf_17 (by decide) ?_
    obtain rfl := inj1 eJ3
    exact A_sub [] rfl hJJ3
theorem mtX0_handOf (l : Launch) (X : Xw) {σ : St} {a1 : Int32} {r : Int32} (h : c_handOf σ a1 = some r) : MetZ 0 l X yX0_handOf cX0_handOf 2 (some .int) 0 0 [.ref (xo X), .int a1] σ (some (.int r)) σ := MetZ.ofAt (by decide) (Nat.le_of_ble_eq_true rfl) (fun G _ Γ Ξ hR hret => wkX0_handOf Γ Ξ hR h hret)
theorem kX0_X0handOf {G : Gx} {X : Xw} {cc : ByteArray} {nL pc F LO : Nat} {σ : St} {lv : List (Nat × Value)} {st : List Value} (Γ : Ok G RX0 cc nL) (Ξ : OkX 0 G X) {a1 : Int32} {r : Int32} (hRm : Rm G F LO) (hf : 0 + 1 ≤ F) (hlo : 8 + (2 + 11) + 0 ≤ LO) (h : c_handOf σ a1 = some r) (hW : (st.map fun v => v.category).sum ≤ 8) (d : decode cc pc = .ok (.invokevirtual 377, 3)) (kk : At G nL σ lv (.int r :: st) (pc + 3)) : At G nL σ lv (.int a1 :: .ref (xo X) :: st) pc := A_callV Γ Ξ rfl rfl (mtX0_handOf (gl G) X h) (lw_V q939 q941 qs17 q63 q942) (n := 1) (by decide +kernel) (rm_ok hRm hf hlo) (rm_k hRm) rfl rfl hW d kk
set_option maxHeartbeats 4000000 in
set_option maxRecDepth 100000 in
theorem wkX0_hands {G : Gx} {X : Xw} {σ σ' : St} {a1 : Int32} (Γ : Ok G RX0 cX0_hands 7) (Ξ : OkX 0 G X) (hRm : Rm G 2 43) {r : Int32} (h : c_hands σ a1 = some (r, σ')) (hret : ∀ (pc : Nat) (lv : List (Nat × Value)), retIs cX0_hands (some .int) (some (.int r)) pc → At G 7 σ' lv [.int r] pc) : At G 7 σ [(0, .ref (xo X)), (1, .int a1)] [] 0 := by
  rw [c_hands] at h
  refine A_aload_n Γ dX0_hands_0 0 rfl ?_
  refine A_iload_n Γ dX0_hands_1 1 rfl ?_
  replace h := b1 h
  obtain ⟨v2, e1, h⟩ := h
  refine kX0_X0isTrailer Γ Ξ hRm (by decide) (by decide) e1 (Nat.le_of_ble_eq_true rfl) dX0_hands_2 ?_
  refine A_if_ne (t := 10) Γ dX0_hands_5 (by decide) (fun c => ?_) (fun c => ?_)
  · replace h := it_f c h
    refine A_aload_n Γ dX0_hands_10 0 rfl ?_
    refine A_iload_n Γ dX0_hands_11 1 rfl ?_
    refine A_aload_n Γ dX0_hands_12 0 rfl ?_
    refine g0_22 Γ Ξ dX0_hands_13 ?_
    refine A_iconst (v := 5) Γ dX0_hands_16 (by decide) ?_
    refine A_iconst (v := 5) Γ dX0_hands_17 (by decide) ?_
    replace h := b1 h
    obtain ⟨v4, e3, h⟩ := h
    refine kX0_X0entryAhead Γ Ξ hRm (by decide) (by decide) e3 (Nat.le_of_ble_eq_true rfl) dX0_hands_18 ?_
    refine A_istore_n (lv' := [(2, .int v4), (0, .ref (xo X)), (1, .int a1)]) Γ dX0_hands_21 (by decide) rfl ?_
    refine A_iload_n Γ dX0_hands_22 0 rfl ?_
    refine A_bipush (v := (-9)) Γ dX0_hands_23 (by decide) ?_
    refine A_icmp_ne (t := 31) Γ dX0_hands_25 (by decide) (fun c => ?_) (fun c => ?_)
    · replace h := it_f c h
      refine A_aload_n Γ dX0_hands_31 1 rfl ?_
      refine A_iload_n Γ dX0_hands_32 2 rfl ?_
      refine A_iload_n Γ dX0_hands_33 0 rfl ?_
      refine A_iconst (v := 3) Γ dX0_hands_34 (by decide) ?_
      refine A_iconst (v := 4) Γ dX0_hands_35 (by decide) ?_
      replace h := b1 h
      obtain ⟨v6, e5, h⟩ := h
      refine kX0_X0entryAhead Γ Ξ hRm (by decide) (by decide) e5 (Nat.le_of_ble_eq_true rfl) dX0_hands_36 ?_
      refine A_istore_n (lv' := [(3, .int v6), (2, .int v4), (0, .ref (xo X)), (1, .int a1)]) Γ dX0_hands_39 (by decide) rfl ?_
      refine A_iconst (v := 0) Γ dX0_hands_40 (by decide) ?_
      refine A_istore (lv' := [(4, .int 0), (3, .int v6), (2, .int v4), (0, .ref (xo X)), (1, .int a1)]) Γ dX0_hands_41 (by decide) rfl ?_
      refine A_aload_n Γ dX0_hands_43 3 rfl ?_
      refine A_iload_n Γ dX0_hands_44 4 rfl ?_
      refine A_iload_n Γ dX0_hands_45 1 rfl ?_
      refine A_iconst (v := 0) Γ dX0_hands_46 (by decide) ?_
      refine A_iconst (v := 1) Γ dX0_hands_47 (by decide) ?_
      replace h := b1 h
      obtain ⟨v8, e7, h⟩ := h
      refine kX0_X0entryAhead Γ Ξ hRm (by decide) (by decide) e7 (Nat.le_of_ble_eq_true rfl) dX0_hands_48 ?_
      refine A_istore (lv' := [(5, .int v8), (4, .int 0), (3, .int v6), (2, .int v4), (0, .ref (xo X)), (1, .int a1)]) Γ dX0_hands_51 (by decide) rfl ?_
      refine A_iload Γ dX0_hands_53 0 rfl ?_
      refine A_istore (lv' := [(6, .int v8), (5, .int v8), (4, .int 0), (3, .int v6), (2, .int v4), (0, .ref (xo X)), (1, .int a1)]) Γ dX0_hands_55 (by decide) rfl ?_
      replace h := b1 h
      obtain ⟨x12, eLL9, h⟩ := h
      have hXL9 : At G 7 σ [(0, .ref (xo X)), (4, .int x12)] [] 119 := by
        refine A_aload_n Γ dX0_hands_119 0 rfl ?_
        refine A_iload Γ dX0_hands_120 1 rfl ?_
        refine A_iload Γ dX0_hands_122 1 rfl ?_
        replace h := b1 h
        obtain ⟨v24, e23, h⟩ := h
        refine kX0_J11bitCount Γ (kpX Ξ) hRm (by decide) (by decide) e23 (Nat.le_of_ble_eq_true rfl) dX0_hands_124 ?_
        replace h := b2 h
        obtain ⟨v26, σ27, e25, h⟩ := h
        refine kX0_X0say Γ Ξ hRm (by decide) (by decide) e25 (Nat.le_of_ble_eq_true rfl) dX0_hands_127 ?_
        obtain ⟨rfl, rfl⟩ := inj2 h
        exact hret _ _ dX0_hands_130
      replace eLL9 := lq2_ex eLL9
      obtain ⟨nL9, eLL9⟩ := eLL9
      have hLL9 : ∀ (nL9 : Nat) (x10 : Int32) (x11 : Int32), lpf2 (c_hands_L9 σ a1 v4 v6 v8) nL9 x10 x11 = some x12 → At G 7 σ [(0, .ref (xo X)), (1, .int a1), (2, .int v4), (3, .int v6), (4, .int x10), (5, .int v8), (6, .int x11)] [] 57 := by
        intro nL9
        induction nL9 with
        | zero => intro x10 x11 eL9; exact (lpf2_0 eL9).elim
        | succ nL9 ihL9 =>
          intro x10 x11 eL9
          replace eL9 := lpf2_s eL9
          obtain ⟨qL9, eL9, hqL9⟩ := eL9
          rw [c_hands_L9] at eL9
          refine A_iload Γ dX0_hands_57 6 rfl ?_
          refine A_iload_n Γ dX0_hands_59 2 rfl ?_
          refine A_icmp_ge (t := 119) Γ dX0_hands_60 (by decide) (fun c => ?_) (fun c => ?_)
          · replace eL9 := it_t c eL9
            obtain rfl := pr1 (lpx2 eL9 hqL9)
            exact A_sub [0, 4] rfl hXL9
          · replace eL9 := it_f c eL9
            refine A_iload Γ dX0_hands_63 4 rfl ?_
            refine A_aload_n Γ dX0_hands_65 0 rfl ?_
            refine g0_23 Γ Ξ dX0_hands_66 ?_
            refine A_iload Γ dX0_hands_69 6 rfl ?_
            replace eL9 := b1 eL9
            obtain ⟨v13, e14, eL9⟩ := eL9
            refine r0_23 Γ Ξ e14 dX0_hands_71 ?_
            refine A_iload_n Γ dX0_hands_72 1 rfl ?_
            replace eL9 := b1 eL9
            obtain ⟨x16, eJ15, eL9⟩ := eL9
            have hJJ15 : At G 7 σ [(0, .ref (xo X)), (1, .int a1), (2, .int v4), (3, .int v6), (5, .int v8), (6, .int x11)] [.int x16, .int x10] 110 := by
              refine A_ior Γ dX0_hands_110 ?_
              refine A_istore (lv' := [(4, .int (x10 ||| x16)), (0, .ref (xo X)), (1, .int a1), (2, .int v4), (3, .int v6), (5, .int v8), (6, .int x11)]) Γ dX0_hands_111 (by decide) rfl ?_
              refine A_iinc (v := x11 + 1) (lv' := [(6, .int (x11 + 1)), (4, .int (x10 ||| x16)), (0, .ref (xo X)), (1, .int a1), (2, .int v4), (3, .int v6), (5, .int v8)]) Γ dX0_hands_113 6 rfl rfl (by decide) rfl ?_
              refine A_goto (t := 57) Γ dX0_hands_116 (by decide) ?_
              exact A_sub [2, 3, 4, 5, 1, 6, 0] rfl (ihL9 _ _ (lpc2 eL9 hqL9))
            refine A_icmp_ne (t := 109) Γ dX0_hands_73 (by decide) (fun c => ?_) (fun c => ?_)
            · replace eJ15 := it_f c eJ15
              refine A_iconst (v := 0) Γ dX0_hands_109 (by decide) ?_
              obtain rfl := inj1 eJ15
              exact A_sub [0, 1, 2, 3, 5, 6] rfl hJJ15
            · replace eJ15 := it_t c eJ15
              refine A_aload_n Γ dX0_hands_76 0 rfl ?_
              refine g0_24 Γ Ξ dX0_hands_77 ?_
              refine A_iload Γ dX0_hands_80 6 rfl ?_
              replace eJ15 := b1 eJ15
              obtain ⟨v17, e18, eJ15⟩ := eJ15
              refine r0_24 Γ Ξ e18 dX0_hands_82 ?_
              refine A_iconst (v := 2) Γ dX0_hands_83 (by decide) ?_
              refine A_icmp_ge (t := 109) Γ dX0_hands_84 (by decide) (fun c => ?_) (fun c => ?_)
              · replace eJ15 := it_t c eJ15
                refine A_iconst (v := 0) Γ dX0_hands_109 (by decide) ?_
                obtain rfl := inj1 eJ15
                exact A_sub [0, 1, 2, 3, 5, 6] rfl hJJ15
              · replace eJ15 := it_f c eJ15
                refine A_iload Γ dX0_hands_87 6 rfl ?_
                refine A_iload Γ dX0_hands_89 5 rfl ?_
                refine A_icmp_eq (t := 100) Γ dX0_hands_91 (by decide) (fun c => ?_) (fun c => ?_)
                · replace eJ15 := it_t c eJ15
                  refine A_aload_n Γ dX0_hands_100 0 rfl ?_
                  refine A_iload Γ dX0_hands_101 6 rfl ?_
                  replace eJ15 := b1 eJ15
                  obtain ⟨v20, e19, eJ15⟩ := eJ15
                  refine kX0_X0handOf Γ Ξ hRm (by decide) (by decide) e19 (Nat.le_of_ble_eq_true rfl) dX0_hands_103 ?_
                  refine A_goto (t := 110) Γ dX0_hands_106 (by decide) ?_
                  obtain rfl := inj1 eJ15
                  exact A_sub [0, 1, 2, 3, 5, 6] rfl hJJ15
                · replace eJ15 := it_f c eJ15
                  refine A_iload Γ dX0_hands_94 6 rfl ?_
                  refine A_iload_n Γ dX0_hands_96 3 rfl ?_
                  refine A_icmp_le (t := 109) Γ dX0_hands_97 (by decide) (fun c => ?_) (fun c => ?_)
                  · replace eJ15 := it_t c eJ15
                    refine A_iconst (v := 0) Γ dX0_hands_109 (by decide) ?_
                    obtain rfl := inj1 eJ15
                    exact A_sub [0, 1, 2, 3, 5, 6] rfl hJJ15
                  · replace eJ15 := it_f c eJ15
                    refine A_aload_n Γ dX0_hands_100 0 rfl ?_
                    refine A_iload Γ dX0_hands_101 6 rfl ?_
                    replace eJ15 := b1 eJ15
                    obtain ⟨v22, e21, eJ15⟩ := eJ15
                    refine kX0_X0handOf Γ Ξ hRm (by decide) (by decide) e21 (Nat.le_of_ble_eq_true rfl) dX0_hands_103 ?_
                    refine A_goto (t := 110) Γ dX0_hands_106 (by decide) ?_
                    obtain rfl := inj1 eJ15
                    exact A_sub [0, 1, 2, 3, 5, 6] rfl hJJ15
      exact A_sub [5, 6, 4, 3, 2, 1, 0] rfl (hLL9 _ _ _ eLL9)
    · replace h := it_t c h
      refine A_bipush (v := (-4)) Γ dX0_hands_28 (by decide) ?_
      obtain ⟨rfl, rfl⟩ := inj2 h
      exact hret _ _ dX0_hands_30
  · replace h := it_t c h
    refine A_iconst (v := (-1)) Γ dX0_hands_8 (by decide) ?_
    obtain ⟨rfl, rfl⟩ := inj2 h
    exact hret _ _ dX0_hands_9
theorem mtX0_hands (l : Launch) (X : Xw) {σ σ' : St} {a1 : Int32} {r : Int32} (h : c_hands σ a1 = some (r, σ')) : MetZ 0 l X yX0_hands cX0_hands 7 (some .int) 2 43 [.ref (xo X), .int a1] σ (some (.int r)) σ' := MetZ.ofAt (by decide) (Nat.le_of_ble_eq_true rfl) (fun G _ Γ Ξ hR hret => wkX0_hands Γ Ξ hR h hret)

set_option maxHeartbeats 4000000 in
set_option maxRecDepth 100000 in
theorem wkX0_maySwap {G : Gx} {X : Xw} {σ : St} {a1 : Int32} (Γ : Ok G RX0 cX0_maySwap 2) (Ξ : OkX 0 G X) (hRm : Rm G 1 21) {r : Int32} (h : c_maySwap σ a1 = some r) (hret : ∀ (pc : Nat) (lv : List (Nat × Value)), retIs cX0_maySwap (some .boolean) (some (.int r)) pc → At G 2 σ lv [.int r] pc) : At G 2 σ [(0, .ref (xo X)), (1, .int a1)] [] 0 := by
  rw [c_maySwap] at h
  refine A_aload_n Γ dX0_maySwap_0 0 rfl ?_
  refine A_iload_n Γ dX0_maySwap_1 1 rfl ?_
  replace h := b1 h
  obtain ⟨v2, e1, h⟩ := h
  refine kX0_X0isOnWay Γ Ξ hRm (by decide) (by decide) e1 (Nat.le_of_ble_eq_true rfl) dX0_maySwap_2 ?_
  replace h := b1 h
  obtain ⟨x4, eJ3, h⟩ := h
  have hJJ3 : At G 2 σ [] [.int x4] 24 := by
    replace h := b1 h
    obtain ⟨v8, e7, h⟩ := h
    obtain ⟨rfl, hze7⟩ := bZ_in e7
    obtain rfl := inj1 h
    exact hret _ _ ⟨dX0_maySwap_24, hze7⟩
  refine A_if_ne (t := 23) Γ dX0_maySwap_5 (by decide) (fun c => ?_) (fun c => ?_)
  · replace eJ3 := it_f c eJ3
    refine A_iconst (v := 0) Γ dX0_maySwap_23 (by decide) ?_
    obtain rfl := inj1 eJ3
    exact A_sub [] rfl hJJ3
  · replace eJ3 := it_t c eJ3
    refine A_aload_n Γ dX0_maySwap_8 0 rfl ?_
    refine g0_30 Γ Ξ dX0_maySwap_9 ?_
    refine A_iload_n Γ dX0_maySwap_12 1 rfl ?_
    replace eJ3 := b1 eJ3
    obtain ⟨v5, e6, eJ3⟩ := eJ3
    refine r0_30 Γ Ξ e6 dX0_maySwap_13 ?_
    refine A_bipush (v := (-9)) Γ dX0_maySwap_14 (by decide) ?_
    refine A_icmp_eq (t := 23) Γ dX0_maySwap_16 (by decide) (fun c => ?_) (fun c => ?_)
    · replace eJ3 := it_t c eJ3
      refine A_iconst (v := 0) Γ dX0_maySwap_23 (by decide) ?_
      obtain rfl := inj1 eJ3
      exact A_sub [] rfl hJJ3
    · replace eJ3 := it_f c eJ3
      refine A_iconst (v := 1) Γ dX0_maySwap_19 (by decide) ?_
      refine A_goto (t := 24) Γ dX0_maySwap_20 (by decide) ?_
      obtain rfl := inj1 eJ3
      exact A_sub [] rfl hJJ3
theorem mtX0_maySwap (l : Launch) (X : Xw) {σ : St} {a1 : Int32} {r : Int32} (h : c_maySwap σ a1 = some r) : MetZ 0 l X yX0_maySwap cX0_maySwap 2 (some .boolean) 1 21 [.ref (xo X), .int a1] σ (some (.int r)) σ := MetZ.ofAt (by decide) (Nat.le_of_ble_eq_true rfl) (fun G _ Γ Ξ hR hret => wkX0_maySwap Γ Ξ hR h hret)
theorem kX0_X0maySwap {G : Gx} {X : Xw} {cc : ByteArray} {nL pc F LO : Nat} {σ : St} {lv : List (Nat × Value)} {st : List Value} (Γ : Ok G RX0 cc nL) (Ξ : OkX 0 G X) {a1 : Int32} {r : Int32} (hRm : Rm G F LO) (hf : 1 + 1 ≤ F) (hlo : 8 + (2 + 11) + 21 ≤ LO) (h : c_maySwap σ a1 = some r) (hW : (st.map fun v => v.category).sum ≤ 8) (d : decode cc pc = .ok (.invokevirtual 394, 3)) (kk : At G nL σ lv (.int r :: st) (pc + 3)) : At G nL σ lv (.int a1 :: .ref (xo X) :: st) pc := A_callV Γ Ξ rfl rfl (mtX0_maySwap (gl G) X h) (lw_V q953 q955 qs18 q63 q956) (n := 1) (by decide +kernel) (rm_ok hRm hf hlo) (rm_k hRm) rfl rfl hW d kk
set_option maxHeartbeats 4000000 in
set_option maxRecDepth 100000 in
theorem wkX0_homeAt {G : Gx} {X : Xw} {σ σ' : St} {a1 : Int32} {a2 : Int32} {a3 : Int32} (Γ : Ok G RX0 cX0_homeAt 4) (Ξ : OkX 0 G X) (hRm : Rm G 4 97) {r : Int32} (h : c_homeAt σ a1 a2 a3 = some (r, σ')) (hret : ∀ (pc : Nat) (lv : List (Nat × Value)), retIs cX0_homeAt (some .int) (some (.int r)) pc → At G 4 σ' lv [.int r] pc) : At G 4 σ [(0, .ref (xo X)), (1, .int a1), (2, .int a2), (3, .int a3)] [] 0 := by
  rw [c_homeAt] at h
  refine A_aload_n Γ dX0_homeAt_0 0 rfl ?_
  refine A_iload_n Γ dX0_homeAt_1 1 rfl ?_
  refine A_iload_n Γ dX0_homeAt_2 2 rfl ?_
  refine A_iload_n Γ dX0_homeAt_3 3 rfl ?_
  replace h := b2 h
  obtain ⟨v2, σ3, e1, h⟩ := h
  refine kX0_X0comesTo Γ Ξ hRm (by decide) (by decide) e1 (Nat.le_of_ble_eq_true rfl) dX0_homeAt_4 ?_
  obtain ⟨rfl, rfl⟩ := inj2 h
  exact hret _ _ dX0_homeAt_7
theorem mtX0_homeAt (l : Launch) (X : Xw) {σ σ' : St} {a1 : Int32} {a2 : Int32} {a3 : Int32} {r : Int32} (h : c_homeAt σ a1 a2 a3 = some (r, σ')) : MetZ 0 l X yX0_homeAt cX0_homeAt 4 (some .int) 4 97 [.ref (xo X), .int a1, .int a2, .int a3] σ (some (.int r)) σ' := MetZ.ofAt (by decide) (Nat.le_of_ble_eq_true rfl) (fun G _ Γ Ξ hR hret => wkX0_homeAt Γ Ξ hR h hret)
theorem kX0_X0homeAt {G : Gx} {X : Xw} {cc : ByteArray} {nL pc F LO : Nat} {σ σ' : St} {lv : List (Nat × Value)} {st : List Value} (Γ : Ok G RX0 cc nL) (Ξ : OkX 0 G X) {a1 : Int32} {a2 : Int32} {a3 : Int32} {r : Int32} (hRm : Rm G F LO) (hf : 4 + 1 ≤ F) (hlo : 8 + (4 + 11) + 97 ≤ LO) (h : c_homeAt σ a1 a2 a3 = some (r, σ')) (hW : (st.map fun v => v.category).sum ≤ 8) (d : decode cc pc = .ok (.invokevirtual 388, 3)) (kk : At G nL σ' lv (.int r :: st) (pc + 3)) : At G nL σ lv (.int a3 :: .int a2 :: .int a1 :: .ref (xo X) :: st) pc := A_callV Γ Ξ rfl rfl (mtX0_homeAt (gl G) X h) (lw_V q961 q963 qs20 q63 q964) (n := 3) (by decide +kernel) (rm_ok hRm hf hlo) (rm_k hRm) rfl rfl hW d kk
set_option maxHeartbeats 4000000 in
set_option maxRecDepth 100000 in
theorem wkX0_laySwap {G : Gx} {X : Xw} {σ σ' : St} {a1 : Int32} {a2 : Int32} {a3 : Int32} {a4 : Int32} (Γ : Ok G RX0 cX0_laySwap 14) (Ξ : OkX 0 G X) (hRm : Rm G 5 120) {r : Int32} (h : c_laySwap σ a1 a2 a3 a4 = some (r, σ')) (hret : ∀ (pc : Nat) (lv : List (Nat × Value)), retIs cX0_laySwap (some .boolean) (some (.int r)) pc → At G 14 σ' lv [.int r] pc) : At G 14 σ [(0, .ref (xo X)), (1, .int a1), (2, .int a2), (3, .int a3), (4, .int a4)] [] 0 := by
  rw [c_laySwap] at h
  refine A_aload_n Γ dX0_laySwap_0 0 rfl ?_
  refine A_bipush (v := (-9)) Γ dX0_laySwap_1 (by decide) ?_
  refine p0_41 Γ Ξ dX0_laySwap_3 ?_
  refine A_iconst (v := 0) Γ dX0_laySwap_6 (by decide) ?_
  refine A_istore (lv' := [(5, .int 0), (0, .ref (xo X)), (1, .int a1), (2, .int a2), (3, .int a3), (4, .int a4)]) Γ dX0_laySwap_7 (by decide) rfl ?_
  refine A_iconst (v := 0) Γ dX0_laySwap_9 (by decide) ?_
  refine A_istore (lv' := [(6, .int 0), (5, .int 0), (0, .ref (xo X)), (1, .int a1), (2, .int a2), (3, .int a3), (4, .int a4)]) Γ dX0_laySwap_10 (by decide) rfl ?_
  replace h := b1 h
  obtain ⟨σ5, eLL1, h⟩ := h
  have hXL1 : At G 14 σ5 [(0, .ref (xo X))] [] 201 := by
    refine A_aload_n Γ dX0_laySwap_201 0 rfl ?_
    refine g0_41 Γ Ξ dX0_laySwap_202 ?_
    refine A_bipush (v := (-9)) Γ dX0_laySwap_205 (by decide) ?_
    replace h := b1 h
    obtain ⟨x33, eJ32, h⟩ := h
    have hJJ32 : At G 14 σ5 [] [.int x33] 215 := by
      replace h := b1 h
      obtain ⟨v35, e34, h⟩ := h
      obtain ⟨rfl, hze34⟩ := bZ_in e34
      obtain ⟨rfl, rfl⟩ := inj2 h
      exact hret _ _ ⟨dX0_laySwap_215, hze34⟩
    refine A_icmp_eq (t := 214) Γ dX0_laySwap_207 (by decide) (fun c => ?_) (fun c => ?_)
    · replace eJ32 := it_t c eJ32
      refine A_iconst (v := 0) Γ dX0_laySwap_214 (by decide) ?_
      obtain rfl := inj1 eJ32
      exact A_sub [] rfl hJJ32
    · replace eJ32 := it_f c eJ32
      refine A_iconst (v := 1) Γ dX0_laySwap_210 (by decide) ?_
      refine A_goto (t := 215) Γ dX0_laySwap_211 (by decide) ?_
      obtain rfl := inj1 eJ32
      exact A_sub [] rfl hJJ32
  replace eLL1 := lq3_ex eLL1
  obtain ⟨nL1, eLL1⟩ := eLL1
  have hLL1 : ∀ (nL1 : Nat) (σ2 : St) (x3 : Int32) (x4 : Int32), lpf3 (c_laySwap_L1 a1 a2 a3 a4) nL1 σ2 x3 x4 = some σ5 → At G 14 σ2 [(0, .ref (xo X)), (1, .int a1), (2, .int a2), (3, .int a3), (4, .int a4), (5, .int x3), (6, .int x4)] [] 12 := by
    intro nL1
    induction nL1 with
    | zero => intro σ2 x3 x4 eL1; exact (lpf3_0 eL1).elim
    | succ nL1 ihL1 =>
      intro σ2 x3 x4 eL1
      replace eL1 := lpf3_s eL1
      obtain ⟨qL1, eL1, hqL1⟩ := eL1
      rw [c_laySwap_L1] at eL1
      refine A_iload Γ dX0_laySwap_12 6 rfl ?_
      refine A_bipush (v := 8) Γ dX0_laySwap_14 (by decide) ?_
      refine A_icmp_ge (t := 201) Γ dX0_laySwap_16 (by decide) (fun c => ?_) (fun c => ?_)
      · replace eL1 := it_t c eL1
        obtain rfl := pr1 (lpx3 eL1 hqL1)
        exact A_sub [0] rfl hXL1
      · replace eL1 := it_f c eL1
        refine A_aload_n Γ dX0_laySwap_19 0 rfl ?_
        refine A_aload_n Γ dX0_laySwap_20 0 rfl ?_
        refine g0_28 Γ Ξ dX0_laySwap_21 ?_
        refine A_iload_n Γ dX0_laySwap_24 1 rfl ?_
        replace eL1 := b1 eL1
        obtain ⟨v6, e7, eL1⟩ := eL1
        refine r0_28 Γ Ξ e7 dX0_laySwap_25 ?_
        refine A_aload_n Γ dX0_laySwap_26 0 rfl ?_
        refine g0_11 Γ Ξ dX0_laySwap_27 ?_
        refine A_iload Γ dX0_laySwap_30 6 rfl ?_
        replace eL1 := b2 eL1
        obtain ⟨v9, σ10, e8, eL1⟩ := eL1
        refine kX0_X0comesTo Γ Ξ hRm (by decide) (by decide) e8 (Nat.le_of_ble_eq_true rfl) dX0_laySwap_32 ?_
        refine A_istore (lv' := [(7, .int v9), (0, .ref (xo X)), (1, .int a1), (2, .int a2), (3, .int a3), (4, .int a4), (5, .int x3), (6, .int x4)]) Γ dX0_laySwap_35 (by decide) rfl ?_
        refine A_aload_n Γ dX0_laySwap_37 1 rfl ?_
        refine A_aload_n Γ dX0_laySwap_38 1 rfl ?_
        refine g0_28 Γ Ξ dX0_laySwap_39 ?_
        refine A_iload_n Γ dX0_laySwap_42 3 rfl ?_
        replace eL1 := b1 eL1
        obtain ⟨v11, e12, eL1⟩ := eL1
        refine r0_28 Γ Ξ e12 dX0_laySwap_43 ?_
        refine A_aload_n Γ dX0_laySwap_44 1 rfl ?_
        refine g0_11 Γ Ξ dX0_laySwap_45 ?_
        refine A_iload Γ dX0_laySwap_48 7 rfl ?_
        replace eL1 := b2 eL1
        obtain ⟨v14, σ15, e13, eL1⟩ := eL1
        refine kX0_X0comesTo Γ Ξ hRm (by decide) (by decide) e13 (Nat.le_of_ble_eq_true rfl) dX0_laySwap_50 ?_
        refine A_istore (lv' := [(8, .int v14), (7, .int v9), (0, .ref (xo X)), (1, .int a1), (2, .int a2), (3, .int a3), (4, .int a4), (5, .int x3), (6, .int x4)]) Γ dX0_laySwap_53 (by decide) rfl ?_
        refine A_iload Γ dX0_laySwap_55 1 rfl ?_
        refine A_bipush (v := (-9)) Γ dX0_laySwap_57 (by decide) ?_
        replace eL1 := b2 eL1
        obtain ⟨σ17, x18, eJ16, eL1⟩ := eL1
        have hJJ16 : At G 14 σ17 [(0, .ref (xo X)), (1, .int a1), (2, .int a2), (3, .int a3), (4, .int a4), (5, .int x18), (6, .int x4)] [] 195 := by
          refine A_iinc (v := x4 + 1) (lv' := [(6, .int (x4 + 1)), (0, .ref (xo X)), (1, .int a1), (2, .int a2), (3, .int a3), (4, .int a4), (5, .int x18)]) Γ dX0_laySwap_195 6 rfl rfl (by decide) rfl ?_
          refine A_goto (t := 12) Γ dX0_laySwap_198 (by decide) ?_
          exact A_sub [1, 2, 3, 4, 5, 6, 0] rfl (ihL1 _ _ _ (lpc3 eL1 hqL1))
        refine A_icmp_eq (t := 195) Γ dX0_laySwap_59 (by decide) (fun c => ?_) (fun c => ?_)
        · replace eJ16 := it_t c eJ16
          obtain ⟨rfl, rfl⟩ := inj2 eJ16
          exact A_sub [2, 3, 4, 5, 6, 7, 8] rfl hJJ16
        · replace eJ16 := it_f c eJ16
          refine A_iload Γ dX0_laySwap_62 0 rfl ?_
          refine A_bipush (v := (-9)) Γ dX0_laySwap_64 (by decide) ?_
          refine A_icmp_eq (t := 195) Γ dX0_laySwap_66 (by decide) (fun c => ?_) (fun c => ?_)
          · replace eJ16 := it_t c eJ16
            obtain ⟨rfl, rfl⟩ := inj2 eJ16
            exact A_sub [2, 3, 4, 5, 6, 7, 8] rfl hJJ16
          · replace eJ16 := it_f c eJ16
            refine A_iload Γ dX0_laySwap_69 1 rfl ?_
            refine A_iload Γ dX0_laySwap_71 0 rfl ?_
            replace eJ16 := b1 eJ16
            obtain ⟨v20, e19, eJ16⟩ := eJ16
            refine kX0_J8max Γ (kpX Ξ) hRm (by decide) (by decide) e19 (Nat.le_of_ble_eq_true rfl) dX0_laySwap_73 ?_
            refine A_bipush (v := 10) Γ dX0_laySwap_76 (by decide) ?_
            refine A_iadd Γ dX0_laySwap_78 ?_
            refine A_istore (lv' := [(9, .int (v20 + 10)), (8, .int v14), (7, .int v9), (0, .ref (xo X)), (1, .int a1), (2, .int a2), (3, .int a3), (4, .int a4), (5, .int x3), (6, .int x4)]) Γ dX0_laySwap_79 (by decide) rfl ?_
            refine A_aload_n Γ dX0_laySwap_81 3 rfl ?_
            refine A_iload Γ dX0_laySwap_82 9 rfl ?_
            refine A_iload Γ dX0_laySwap_84 0 rfl ?_
            refine A_iload_n Γ dX0_laySwap_86 6 rfl ?_
            replace eJ16 := b2 eJ16
            obtain ⟨v22, σ23, e21, eJ16⟩ := eJ16
            refine kX0_X0homeAt Γ Ξ hRm (by decide) (by decide) e21 (Nat.le_of_ble_eq_true rfl) dX0_laySwap_87 ?_
            refine A_istore (lv' := [(10, .int v22), (9, .int (v20 + 10)), (8, .int v14), (7, .int v9), (0, .ref (xo X)), (1, .int a1), (2, .int a2), (3, .int a3), (4, .int a4), (5, .int x3), (6, .int x4)]) Γ dX0_laySwap_90 (by decide) rfl ?_
            refine A_aload_n Γ dX0_laySwap_92 4 rfl ?_
            refine A_iload Γ dX0_laySwap_93 10 rfl ?_
            refine A_iload Γ dX0_laySwap_95 1 rfl ?_
            refine A_iload Γ dX0_laySwap_97 8 rfl ?_
            replace eJ16 := b2 eJ16
            obtain ⟨v25, σ26, e24, eJ16⟩ := eJ16
            refine kX0_X0homeAt Γ Ξ hRm (by decide) (by decide) e24 (Nat.le_of_ble_eq_true rfl) dX0_laySwap_99 ?_
            refine A_istore (lv' := [(11, .int v25), (10, .int v22), (9, .int (v20 + 10)), (8, .int v14), (7, .int v9), (0, .ref (xo X)), (1, .int a1), (2, .int a2), (3, .int a3), (4, .int a4), (5, .int x3), (6, .int x4)]) Γ dX0_laySwap_102 (by decide) rfl ?_
            refine A_iload Γ dX0_laySwap_104 1 rfl ?_
            refine A_iload Γ dX0_laySwap_106 0 rfl ?_
            replace eJ16 := b1 eJ16
            obtain ⟨v28, e27, eJ16⟩ := eJ16
            refine kX0_J8max Γ (kpX Ξ) hRm (by decide) (by decide) e27 (Nat.le_of_ble_eq_true rfl) dX0_laySwap_108 ?_
            refine A_istore (lv' := [(12, .int v28), (11, .int v25), (10, .int v22), (9, .int (v20 + 10)), (8, .int v14), (7, .int v9), (0, .ref (xo X)), (1, .int a1), (2, .int a2), (3, .int a3), (4, .int a4), (5, .int x3), (6, .int x4)]) Γ dX0_laySwap_111 (by decide) rfl ?_
            refine A_iload Γ dX0_laySwap_113 2 rfl ?_
            refine A_bipush (v := (-9)) Γ dX0_laySwap_115 (by decide) ?_
            replace eJ16 := b1 eJ16
            obtain ⟨x30, eJ29, eJ16⟩ := eJ16
            have hJJ29 : At G 14 σ26 [(0, .ref (xo X)), (1, .int a1), (2, .int a2), (3, .int a3), (4, .int a4), (5, .int x3), (6, .int x4), (10, .int v22), (11, .int v25), (12, .int v28)] [.int x30] 132 := by
              refine A_istore (lv' := [(13, .int x30), (0, .ref (xo X)), (1, .int a1), (2, .int a2), (3, .int a3), (4, .int a4), (5, .int x3), (6, .int x4), (10, .int v22), (11, .int v25), (12, .int v28)]) Γ dX0_laySwap_132 (by decide) rfl ?_
              refine A_iload Γ dX0_laySwap_134 0 rfl ?_
              refine A_if_eq (t := 195) Γ dX0_laySwap_136 (by decide) (fun c => ?_) (fun c => ?_)
              · replace eJ16 := it_t c eJ16
                obtain ⟨rfl, rfl⟩ := inj2 eJ16
                exact A_sub [1, 2, 3, 4, 5, 6, 7] rfl hJJ16
              · replace eJ16 := it_f c eJ16
                refine A_aload_n Γ dX0_laySwap_139 1 rfl ?_
                refine g0_41 Γ Ξ dX0_laySwap_140 ?_
                refine A_bipush (v := (-9)) Γ dX0_laySwap_143 (by decide) ?_
                have hKK31 : c_laySwap_K31 x4 v22 v25 σ26 v28  = some (σ17, x18) → At G 14 σ26 [(0, .ref (xo X)), (1, .int a1), (2, .int a2), (3, .int a3), (4, .int a4), (6, .int x4), (10, .int v22), (11, .int v25), (12, .int v28)] [] 176 := by
                  clear eJ16
                  intro  eJ16
                  rw [c_laySwap_K31] at eJ16
                  refine A_aload_n Γ dX0_laySwap_176 0 rfl ?_
                  refine A_iload Γ dX0_laySwap_177 5 rfl ?_
                  refine p0_41 Γ Ξ dX0_laySwap_179 ?_
                  refine A_aload_n Γ dX0_laySwap_182 0 rfl ?_
                  refine A_iload Γ dX0_laySwap_183 8 rfl ?_
                  refine p0_42 Γ Ξ dX0_laySwap_185 ?_
                  refine A_iload Γ dX0_laySwap_188 6 rfl ?_
                  refine A_iload Γ dX0_laySwap_190 7 rfl ?_
                  refine A_iadd Γ dX0_laySwap_192 ?_
                  refine A_istore (lv' := [(5, .int (v22 + v25)), (0, .ref (xo X)), (1, .int a1), (2, .int a2), (3, .int a3), (4, .int a4), (6, .int x4), (10, .int v22), (11, .int v25), (12, .int v28)]) Γ dX0_laySwap_193 (by decide) rfl ?_
                  obtain ⟨rfl, rfl⟩ := inj2 eJ16
                  exact A_sub [1, 2, 3, 4, 5, 0, 6] rfl hJJ16
                refine A_icmp_eq (t := 176) Γ dX0_laySwap_145 (by decide) (fun c => ?_) (fun c => ?_)
                · replace eJ16 := it_t c eJ16
                  exact A_sub [1, 2, 3, 4, 5, 7, 8, 9, 10] rfl (hKK31  eJ16)
                · replace eJ16 := it_f c eJ16
                  refine A_iload Γ dX0_laySwap_148 10 rfl ?_
                  refine A_aload_n Γ dX0_laySwap_150 1 rfl ?_
                  refine g0_42 Γ Ξ dX0_laySwap_151 ?_
                  refine A_icmp_lt (t := 176) Γ dX0_laySwap_154 (by decide) (fun c => ?_) (fun c => ?_)
                  · replace eJ16 := it_t c eJ16
                    exact A_sub [1, 2, 3, 4, 5, 7, 8, 9, 10] rfl (hKK31  eJ16)
                  · replace eJ16 := it_f c eJ16
                    refine A_iload Γ dX0_laySwap_157 10 rfl ?_
                    refine A_aload_n Γ dX0_laySwap_159 1 rfl ?_
                    refine g0_42 Γ Ξ dX0_laySwap_160 ?_
                    refine A_icmp_ne (t := 195) Γ dX0_laySwap_163 (by decide) (fun c => ?_) (fun c => ?_)
                    · replace eJ16 := it_f c eJ16
                      obtain ⟨rfl, rfl⟩ := inj2 eJ16
                      exact A_sub [1, 2, 3, 4, 5, 6, 7] rfl hJJ16
                    · replace eJ16 := it_t c eJ16
                      refine A_iload Γ dX0_laySwap_166 8 rfl ?_
                      refine A_iload Γ dX0_laySwap_168 9 rfl ?_
                      refine A_iadd Γ dX0_laySwap_170 ?_
                      refine A_iload Γ dX0_laySwap_171 6 rfl ?_
                      refine A_icmp_ge (t := 195) Γ dX0_laySwap_173 (by decide) (fun c => ?_) (fun c => ?_)
                      · replace eJ16 := it_t c eJ16
                        obtain ⟨rfl, rfl⟩ := inj2 eJ16
                        exact A_sub [1, 2, 3, 4, 5, 6, 7] rfl hJJ16
                      · replace eJ16 := it_f c eJ16
                        exact A_sub [1, 2, 3, 4, 5, 7, 8, 9, 10] rfl (hKK31  eJ16)
            refine A_icmp_eq (t := 131) Γ dX0_laySwap_117 (by decide) (fun c => ?_) (fun c => ?_)
            · replace eJ29 := it_t c eJ29
              refine A_iconst (v := 0) Γ dX0_laySwap_131 (by decide) ?_
              obtain rfl := inj1 eJ29
              exact A_sub [6, 7, 8, 9, 10, 11, 12, 2, 1, 0] rfl hJJ29
            · replace eJ29 := it_f c eJ29
              refine A_iload Γ dX0_laySwap_120 1 rfl ?_
              refine A_bipush (v := (-9)) Γ dX0_laySwap_122 (by decide) ?_
              refine A_icmp_eq (t := 131) Γ dX0_laySwap_124 (by decide) (fun c => ?_) (fun c => ?_)
              · replace eJ29 := it_t c eJ29
                refine A_iconst (v := 0) Γ dX0_laySwap_131 (by decide) ?_
                obtain rfl := inj1 eJ29
                exact A_sub [6, 7, 8, 9, 10, 11, 12, 2, 1, 0] rfl hJJ29
              · replace eJ29 := it_f c eJ29
                refine A_iconst (v := 1) Γ dX0_laySwap_127 (by decide) ?_
                refine A_goto (t := 132) Γ dX0_laySwap_128 (by decide) ?_
                obtain rfl := inj1 eJ29
                exact A_sub [6, 7, 8, 9, 10, 11, 12, 2, 1, 0] rfl hJJ29
  exact A_sub [2, 3, 4, 5, 6, 1, 0] rfl (hLL1 _ _ _ _ eLL1)
theorem mtX0_laySwap (l : Launch) (X : Xw) {σ σ' : St} {a1 : Int32} {a2 : Int32} {a3 : Int32} {a4 : Int32} {r : Int32} (h : c_laySwap σ a1 a2 a3 a4 = some (r, σ')) : MetZ 0 l X yX0_laySwap cX0_laySwap 14 (some .boolean) 5 120 [.ref (xo X), .int a1, .int a2, .int a3, .int a4] σ (some (.int r)) σ' := MetZ.ofAt (by decide) (Nat.le_of_ble_eq_true rfl) (fun G _ Γ Ξ hR hret => wkX0_laySwap Γ Ξ hR h hret)
theorem kX0_X0laySwap {G : Gx} {X : Xw} {cc : ByteArray} {nL pc F LO : Nat} {σ σ' : St} {lv : List (Nat × Value)} {st : List Value} (Γ : Ok G RX0 cc nL) (Ξ : OkX 0 G X) {a1 : Int32} {a2 : Int32} {a3 : Int32} {a4 : Int32} {r : Int32} (hRm : Rm G F LO) (hf : 5 + 1 ≤ F) (hlo : 8 + (14 + 11) + 120 ≤ LO) (h : c_laySwap σ a1 a2 a3 a4 = some (r, σ')) (hW : (st.map fun v => v.category).sum ≤ 8) (d : decode cc pc = .ok (.invokevirtual 397, 3)) (kk : At G nL σ' lv (.int r :: st) (pc + 3)) : At G nL σ lv (.int a4 :: .int a3 :: .int a2 :: .int a1 :: .ref (xo X) :: st) pc := A_callV Γ Ξ rfl rfl (mtX0_laySwap (gl G) X h) (lw_V q957 q959 qs19 q63 q960) (n := 4) (by decide +kernel) (rm_ok hRm hf hlo) (rm_k hRm) rfl rfl hW d kk
set_option maxHeartbeats 4000000 in
set_option maxRecDepth 100000 in
theorem wkX0_swap {G : Gx} {X : Xw} {σ σ' : St} {a1 : Int32} {a2 : Int32} {a3 : Int32} {a4 : Int32} (Γ : Ok G RX0 cX0_swap 5) (Ξ : OkX 0 G X) (hRm : Rm G 6 153) {r : Int32} (h : c_swap σ a1 a2 a3 a4 = some (r, σ')) (hret : ∀ (pc : Nat) (lv : List (Nat × Value)), retIs cX0_swap (some .int) (some (.int r)) pc → At G 5 σ' lv [.int r] pc) : At G 5 σ [(0, .ref (xo X)), (1, .int a1), (2, .int a2), (3, .int a3), (4, .int a4)] [] 0 := by
  rw [c_swap] at h
  refine A_iload_n Γ dX0_swap_0 1 rfl ?_
  replace h := b1 h
  obtain ⟨v2, e1, h⟩ := h
  refine kX0_X0isTractor Γ (kpX Ξ) hRm (by decide) (by decide) e1 (Nat.le_of_ble_eq_true rfl) dX0_swap_1 ?_
  refine A_if_eq (t := 34) Γ dX0_swap_4 (by decide) (fun c => ?_) (fun c => ?_)
  · replace h := it_t c h
    refine A_iconst (v := (-1)) Γ dX0_swap_34 (by decide) ?_
    obtain ⟨rfl, rfl⟩ := inj2 h
    exact hret _ _ dX0_swap_35
  · replace h := it_f c h
    refine A_iload_n Γ dX0_swap_7 2 rfl ?_
    replace h := b1 h
    obtain ⟨v4, e3, h⟩ := h
    refine kX0_X0isTractor Γ (kpX Ξ) hRm (by decide) (by decide) e3 (Nat.le_of_ble_eq_true rfl) dX0_swap_8 ?_
    refine A_if_eq (t := 34) Γ dX0_swap_11 (by decide) (fun c => ?_) (fun c => ?_)
    · replace h := it_t c h
      refine A_iconst (v := (-1)) Γ dX0_swap_34 (by decide) ?_
      obtain ⟨rfl, rfl⟩ := inj2 h
      exact hret _ _ dX0_swap_35
    · replace h := it_f c h
      refine A_iload_n Γ dX0_swap_14 1 rfl ?_
      refine A_iload_n Γ dX0_swap_15 2 rfl ?_
      refine A_icmp_eq (t := 34) Γ dX0_swap_16 (by decide) (fun c => ?_) (fun c => ?_)
      · replace h := it_t c h
        refine A_iconst (v := (-1)) Γ dX0_swap_34 (by decide) ?_
        obtain ⟨rfl, rfl⟩ := inj2 h
        exact hret _ _ dX0_swap_35
      · replace h := it_f c h
        refine A_iload_n Γ dX0_swap_19 3 rfl ?_
        replace h := b1 h
        obtain ⟨v6, e5, h⟩ := h
        refine kX0_X0isYard Γ (kpX Ξ) hRm (by decide) (by decide) e5 (Nat.le_of_ble_eq_true rfl) dX0_swap_20 ?_
        refine A_if_eq (t := 34) Γ dX0_swap_23 (by decide) (fun c => ?_) (fun c => ?_)
        · replace h := it_t c h
          refine A_iconst (v := (-1)) Γ dX0_swap_34 (by decide) ?_
          obtain ⟨rfl, rfl⟩ := inj2 h
          exact hret _ _ dX0_swap_35
        · replace h := it_f c h
          refine A_iload Γ dX0_swap_26 4 rfl ?_
          replace h := b1 h
          obtain ⟨v8, e7, h⟩ := h
          refine kX0_X0isYard Γ (kpX Ξ) hRm (by decide) (by decide) e7 (Nat.le_of_ble_eq_true rfl) dX0_swap_28 ?_
          refine A_if_ne (t := 36) Γ dX0_swap_31 (by decide) (fun c => ?_) (fun c => ?_)
          · replace h := it_f c h
            refine A_aload_n Γ dX0_swap_36 0 rfl ?_
            refine A_iload_n Γ dX0_swap_37 1 rfl ?_
            replace h := b1 h
            obtain ⟨v10, e9, h⟩ := h
            refine kX0_X0maySwap Γ Ξ hRm (by decide) (by decide) e9 (Nat.le_of_ble_eq_true rfl) dX0_swap_38 ?_
            refine A_if_eq (t := 52) Γ dX0_swap_41 (by decide) (fun c => ?_) (fun c => ?_)
            · replace h := it_t c h
              refine A_bipush (v := (-4)) Γ dX0_swap_52 (by decide) ?_
              obtain ⟨rfl, rfl⟩ := inj2 h
              exact hret _ _ dX0_swap_54
            · replace h := it_f c h
              refine A_aload_n Γ dX0_swap_44 0 rfl ?_
              refine A_iload_n Γ dX0_swap_45 2 rfl ?_
              replace h := b1 h
              obtain ⟨v12, e11, h⟩ := h
              refine kX0_X0maySwap Γ Ξ hRm (by decide) (by decide) e11 (Nat.le_of_ble_eq_true rfl) dX0_swap_46 ?_
              refine A_if_ne (t := 55) Γ dX0_swap_49 (by decide) (fun c => ?_) (fun c => ?_)
              · replace h := it_f c h
                refine A_aload_n Γ dX0_swap_55 0 rfl ?_
                refine A_iload_n Γ dX0_swap_56 1 rfl ?_
                refine A_iload_n Γ dX0_swap_57 2 rfl ?_
                refine A_iload_n Γ dX0_swap_58 3 rfl ?_
                refine A_iload Γ dX0_swap_59 4 rfl ?_
                replace h := b2 h
                obtain ⟨v14, σ15, e13, h⟩ := h
                refine kX0_X0laySwap Γ Ξ hRm (by decide) (by decide) e13 (Nat.le_of_ble_eq_true rfl) dX0_swap_61 ?_
                replace h := b2 h
                obtain ⟨σ17, x18, eJ16, h⟩ := h
                have hJJ16 : At G 5 σ17 [] [.int x18] 87 := by
                  obtain ⟨rfl, rfl⟩ := inj2 h
                  exact hret _ _ dX0_swap_87
                refine A_if_eq (t := 82) Γ dX0_swap_64 (by decide) (fun c => ?_) (fun c => ?_)
                · replace eJ16 := it_t c eJ16
                  refine A_aload_n Γ dX0_swap_82 0 rfl ?_
                  refine A_iconst (v := 1) Γ dX0_swap_83 (by decide) ?_
                  replace eJ16 := b2 eJ16
                  obtain ⟨v20, σ21, e19, eJ16⟩ := eJ16
                  refine kX0_X0found Γ Ξ hRm (by decide) (by decide) e19 (Nat.le_of_ble_eq_true rfl) dX0_swap_84 ?_
                  obtain ⟨rfl, rfl⟩ := inj2 eJ16
                  exact A_sub [] rfl hJJ16
                · replace eJ16 := it_f c eJ16
                  refine A_aload_n Γ dX0_swap_67 0 rfl ?_
                  refine A_aload_n Γ dX0_swap_68 0 rfl ?_
                  refine g0_42 Γ Ξ dX0_swap_69 ?_
                  refine A_aload_n Γ dX0_swap_72 0 rfl ?_
                  refine g0_41 Γ Ξ dX0_swap_73 ?_
                  replace eJ16 := b2 eJ16
                  obtain ⟨v23, σ24, e22, eJ16⟩ := eJ16
                  refine kX0_X0say Γ Ξ hRm (by decide) (by decide) e22 (Nat.le_of_ble_eq_true rfl) dX0_swap_76 ?_
                  refine A_goto (t := 87) Γ dX0_swap_79 (by decide) ?_
                  obtain ⟨rfl, rfl⟩ := inj2 eJ16
                  exact A_sub [] rfl hJJ16
              · replace h := it_t c h
                refine A_bipush (v := (-4)) Γ dX0_swap_52 (by decide) ?_
                obtain ⟨rfl, rfl⟩ := inj2 h
                exact hret _ _ dX0_swap_54
          · replace h := it_t c h
            refine A_iconst (v := (-1)) Γ dX0_swap_34 (by decide) ?_
            obtain ⟨rfl, rfl⟩ := inj2 h
            exact hret _ _ dX0_swap_35
theorem mtX0_swap (l : Launch) (X : Xw) {σ σ' : St} {a1 : Int32} {a2 : Int32} {a3 : Int32} {a4 : Int32} {r : Int32} (h : c_swap σ a1 a2 a3 a4 = some (r, σ')) : MetZ 0 l X yX0_swap cX0_swap 5 (some .int) 6 153 [.ref (xo X), .int a1, .int a2, .int a3, .int a4] σ (some (.int r)) σ' := MetZ.ofAt (by decide) (Nat.le_of_ble_eq_true rfl) (fun G _ Γ Ξ hR hret => wkX0_swap Γ Ξ hR h hret)

set_option maxHeartbeats 4000000 in
set_option maxRecDepth 100000 in
theorem wkX0_tryPairs : ∀ (dd : Nat) {G : Gx} {X : Xw} {σ σ' : St} {a1 : Int32} {a2 : Nat} {a3 : Int32} (Γ : Ok G RX0 cX0_tryPairs 7) (Ξ : OkX 0 G X) (hRm : Rm G (6 + dd) (153 + dd * 26)) (ka2 : kInt a2) (h : c_tryPairs dd σ a1 a2 a3 = some σ') (hret : ∀ (pc : Nat) (lv : List (Nat × Value)), retIs cX0_tryPairs none (none) pc → At G 7 σ' lv [] pc), At G 7 σ [(0, .ref (xo X)), (1, .int a1), (2, .ref (xad X a2)), (3, .int a3)] [] 0 := by
  intro dd
  induction dd with
  | zero => intro G X σ σ'  a1 a2 a3 Γ Ξ hRm ka2 h hret; cases h
  | succ dd ih =>
    intro G X σ σ'  a1 a2 a3 Γ Ξ hRm ka2 h hret
    rw [c_tryPairs] at h
    refine A_aload_n Γ dX0_tryPairs_0 0 rfl ?_
    refine g0_46 Γ Ξ dX0_tryPairs_1 ?_
    refine A_bipush (v := (-9)) Γ dX0_tryPairs_4 (by decide) ?_
    have hKK1 : c_tryPairs_K1 (c_tryPairs dd) σ a1 a2 a3  = some σ' → At G 7 σ [(0, .ref (xo X)), (1, .int a1), (2, .ref (xad X a2)), (3, .int a3)] [] 18 := by
      clear h
      intro  h
      rw [c_tryPairs_K1] at h
      refine A_iload_n Γ dX0_tryPairs_18 1 rfl ?_
      refine A_if_ne (t := 43) Γ dX0_tryPairs_19 (by decide) (fun c => ?_) (fun c => ?_)
      · replace h := it_f c h
        refine A_iconst (v := 0) Γ dX0_tryPairs_43 (by decide) ?_
        refine A_istore (lv' := [(4, .int 0), (0, .ref (xo X)), (1, .int a1), (2, .ref (xad X a2)), (3, .int a3)]) Γ dX0_tryPairs_44 (by decide) rfl ?_
        replace h := b1 h
        obtain ⟨x4, eLL2, h⟩ := h
        have hXL2 : At G 7 σ [(0, .ref (xo X)), (1, .int a1), (2, .ref (xad X a2)), (3, .int a3), (4, .int x4)] [] 61 := by
          refine A_iload Γ dX0_tryPairs_61 4 rfl ?_
          refine A_iconst (v := 1) Γ dX0_tryPairs_63 (by decide) ?_
          refine A_iadd Γ dX0_tryPairs_64 ?_
          refine A_istore (lv' := [(5, .int (x4 + 1)), (0, .ref (xo X)), (1, .int a1), (2, .ref (xad X a2)), (3, .int a3), (4, .int x4)]) Γ dX0_tryPairs_65 (by decide) rfl ?_
          replace h := b1 h
          obtain ⟨σ8, eLL5, h⟩ := h
          have hXL5 : At G 7 σ8 [] [] 157 := by
            obtain rfl := inj1 h
            exact hret _ _ dX0_tryPairs_157
          replace eLL5 := lq2_ex eLL5
          obtain ⟨nL5, eLL5⟩ := eLL5
          have hLL5 : ∀ (nL5 : Nat) (σ6 : St) (x7 : Int32), lpf2 (c_tryPairs_L5 (c_tryPairs dd) a1 a2 a3 x4) nL5 σ6 x7 = some σ8 → At G 7 σ6 [(0, .ref (xo X)), (1, .int a1), (2, .ref (xad X a2)), (3, .int a3), (4, .int x4), (5, .int x7)] [] 67 := by
            intro nL5
            induction nL5 with
            | zero => intro σ6 x7 eL5; exact (lpf2_0 eL5).elim
            | succ nL5 ihL5 =>
              intro σ6 x7 eL5
              replace eL5 := lpf2_s eL5
              obtain ⟨qL5, eL5, hqL5⟩ := eL5
              rw [c_tryPairs_L5] at eL5
              refine A_iload Γ dX0_tryPairs_67 5 rfl ?_
              refine A_bipush (v := 6) Γ dX0_tryPairs_69 (by decide) ?_
              refine A_icmp_ge (t := 157) Γ dX0_tryPairs_71 (by decide) (fun c => ?_) (fun c => ?_)
              · replace eL5 := it_t c eL5
                obtain rfl := pr1 (lpx2 eL5 hqL5)
                exact A_sub [] rfl hXL5
              · replace eL5 := it_f c eL5
                refine A_iload_n Γ dX0_tryPairs_74 1 rfl ?_
                refine A_iload Γ dX0_tryPairs_75 5 rfl ?_
                refine A_ishr Γ dX0_tryPairs_77 ?_
                refine A_iconst (v := 1) Γ dX0_tryPairs_78 (by decide) ?_
                refine A_iand Γ dX0_tryPairs_79 ?_
                refine A_iconst (v := 1) Γ dX0_tryPairs_80 (by decide) ?_
                replace eL5 := b1 eL5
                obtain ⟨σ10, eJ9, eL5⟩ := eL5
                have hJJ9 : At G 7 σ10 [(0, .ref (xo X)), (1, .int a1), (2, .ref (xad X a2)), (3, .int a3), (4, .int x4), (5, .int x7)] [] 151 := by
                  refine A_iinc (v := x7 + 1) (lv' := [(5, .int (x7 + 1)), (0, .ref (xo X)), (1, .int a1), (2, .ref (xad X a2)), (3, .int a3), (4, .int x4)]) Γ dX0_tryPairs_151 5 rfl rfl (by decide) rfl ?_
                  refine A_goto (t := 67) Γ dX0_tryPairs_154 (by decide) ?_
                  exact A_sub [1, 2, 3, 4, 5, 0] rfl (ihL5 _ _ (lpc2 eL5 hqL5))
                refine A_icmp_ne (t := 151) Γ dX0_tryPairs_81 (by decide) (fun c => ?_) (fun c => ?_)
                · replace eJ9 := it_f c eJ9
                  obtain rfl := inj1 eJ9
                  exact A_sub [0, 1, 2, 3, 4, 5] rfl hJJ9
                · replace eJ9 := it_t c eJ9
                  refine A_aload_n Γ dX0_tryPairs_84 0 rfl ?_
                  refine A_iload Γ dX0_tryPairs_85 4 rfl ?_
                  refine A_iload Γ dX0_tryPairs_87 5 rfl ?_
                  refine A_aload_n Γ dX0_tryPairs_89 2 rfl ?_
                  refine A_iload Γ dX0_tryPairs_90 4 rfl ?_
                  replace eJ9 := b1 eJ9
                  obtain ⟨v11, e12, eJ9⟩ := eJ9
                  refine A_aldD Γ Ξ ka2 rfl e12 dX0_tryPairs_92 ?_
                  refine A_aload_n Γ dX0_tryPairs_93 2 rfl ?_
                  refine A_iload Γ dX0_tryPairs_94 5 rfl ?_
                  replace eJ9 := b1 eJ9
                  obtain ⟨v13, e14, eJ9⟩ := eJ9
                  refine A_aldD Γ Ξ ka2 rfl e14 dX0_tryPairs_96 ?_
                  replace eJ9 := b2 eJ9
                  obtain ⟨v16, σ17, e15, eJ9⟩ := eJ9
                  refine kX0_X0laySwap Γ Ξ hRm (by omega) (by omega) e15 (Nat.le_of_ble_eq_true rfl) dX0_tryPairs_97 ?_
                  refine A_if_eq (t := 151) Γ dX0_tryPairs_100 (by decide) (fun c => ?_) (fun c => ?_)
                  · replace eJ9 := it_t c eJ9
                    obtain rfl := inj1 eJ9
                    exact A_sub [0, 1, 2, 3, 4, 5] rfl hJJ9
                  · replace eJ9 := it_f c eJ9
                    refine A_aload_n Γ dX0_tryPairs_103 0 rfl ?_
                    refine g0_42 Γ Ξ dX0_tryPairs_104 ?_
                    refine A_istore (lv' := [(6, .int (cI σ17 42)), (0, .ref (xo X)), (1, .int a1), (2, .ref (xad X a2)), (3, .int a3), (4, .int x4), (5, .int x7)]) Γ dX0_tryPairs_107 (by decide) rfl ?_
                    refine A_aload_n Γ dX0_tryPairs_109 1 rfl ?_
                    refine g0_44 Γ Ξ dX0_tryPairs_110 ?_
                    refine A_iload Γ dX0_tryPairs_113 5 rfl ?_
                    refine A_iload Γ dX0_tryPairs_115 6 rfl ?_
                    replace eJ9 := b1 eJ9
                    obtain ⟨σ18, e19, eJ9⟩ := eJ9
                    refine w0_44 Γ Ξ e19 dX0_tryPairs_117 ?_
                    refine A_aload_n Γ dX0_tryPairs_118 1 rfl ?_
                    refine g0_44 Γ Ξ dX0_tryPairs_119 ?_
                    refine A_iload Γ dX0_tryPairs_122 6 rfl ?_
                    refine A_iload Γ dX0_tryPairs_124 5 rfl ?_
                    replace eJ9 := b1 eJ9
                    obtain ⟨σ20, e21, eJ9⟩ := eJ9
                    refine w0_44 Γ Ξ e21 dX0_tryPairs_126 ?_
                    refine A_aload_n Γ dX0_tryPairs_127 1 rfl ?_
                    refine A_iload_n Γ dX0_tryPairs_128 2 rfl ?_
                    refine A_iconst (v := 1) Γ dX0_tryPairs_129 (by decide) ?_
                    refine A_iload Γ dX0_tryPairs_130 5 rfl ?_
                    refine A_ishl Γ dX0_tryPairs_132 ?_
                    refine A_iconst (v := 1) Γ dX0_tryPairs_133 (by decide) ?_
                    refine A_iload Γ dX0_tryPairs_134 6 rfl ?_
                    refine A_ishl Γ dX0_tryPairs_136 ?_
                    refine A_ior Γ dX0_tryPairs_137 ?_
                    refine A_iconst (v := (-1)) Γ dX0_tryPairs_138 (by decide) ?_
                    refine A_ixor Γ dX0_tryPairs_139 ?_
                    refine A_iand Γ dX0_tryPairs_140 ?_
                    refine A_aload_n Γ dX0_tryPairs_141 3 rfl ?_
                    refine A_iload_n Γ dX0_tryPairs_142 4 rfl ?_
                    refine A_iload Γ dX0_tryPairs_143 0 rfl ?_
                    replace eJ9 := b1 eJ9
                    obtain ⟨v23, e22, eJ9⟩ := eJ9
                    refine kX0_J8max Γ (kpX Ξ) hRm (by omega) (by omega) e22 (Nat.le_of_ble_eq_true rfl) dX0_tryPairs_145 ?_
                    replace eJ9 := b1 eJ9
                    obtain ⟨σ24, e25, eJ9⟩ := eJ9
                    refine A_callV (As := [.int (a1 &&& (((1 <<< (x4 &&& 31)) ||| (1 <<< (x7 &&& 31))) ^^^ (-1))), .ref (xad X a2), .int v23]) (st := []) Γ Ξ rfl rfl (MetZ.ofAt (y := yX0_tryPairs) (cc := cX0_tryPairs) (nL := 7) (ret := none) (rv := none) (by decide) (Nat.le_of_ble_eq_true rfl) (fun G _ Γ Ξ hR hret => ih Γ Ξ hR ka2 e25 hret)) (lw_V q969 q971 qs21 q63 q972) (n := 3) (by decide +kernel) (rm_ok hRm (by omega) (by omega)) (rm_k hRm) rfl rfl (Nat.le_of_ble_eq_true rfl) dX0_tryPairs_148 ?_
                    obtain rfl := inj1 eJ9
                    exact A_sub [1, 2, 3, 4, 5, 6] rfl hJJ9
          exact A_sub [1, 2, 3, 4, 5, 0] rfl (hLL5 _ _ _ eLL5)
        replace eLL2 := lq1_ex eLL2
        obtain ⟨nL2, eLL2⟩ := eLL2
        have hLL2 : ∀ (nL2 : Nat) (x3 : Int32), lpf1 (c_tryPairs_L2 a1) nL2 x3 = some x4 → At G 7 σ [(0, .ref (xo X)), (1, .int a1), (2, .ref (xad X a2)), (3, .int a3), (4, .int x3)] [] 46 := by
          intro nL2
          induction nL2 with
          | zero => intro x3 eL2; exact (lpf1_0 eL2).elim
          | succ nL2 ihL2 =>
            intro x3 eL2
            replace eL2 := lpf1_s eL2
            obtain ⟨qL2, eL2, hqL2⟩ := eL2
            rw [c_tryPairs_L2] at eL2
            refine A_iload_n Γ dX0_tryPairs_46 1 rfl ?_
            refine A_iload Γ dX0_tryPairs_47 4 rfl ?_
            refine A_ishr Γ dX0_tryPairs_49 ?_
            refine A_iconst (v := 1) Γ dX0_tryPairs_50 (by decide) ?_
            refine A_iand Γ dX0_tryPairs_51 ?_
            refine A_if_ne (t := 61) Γ dX0_tryPairs_52 (by decide) (fun c => ?_) (fun c => ?_)
            · replace eL2 := it_f c eL2
              obtain rfl := pr1 (lpx1 eL2 hqL2)
              exact A_sub [0, 1, 2, 3, 4] rfl hXL2
            · replace eL2 := it_t c eL2
              refine A_iinc (v := x3 + 1) (lv' := [(4, .int (x3 + 1)), (0, .ref (xo X)), (1, .int a1), (2, .ref (xad X a2)), (3, .int a3)]) Γ dX0_tryPairs_55 4 rfl rfl (by decide) rfl ?_
              refine A_goto (t := 46) Γ dX0_tryPairs_58 (by decide) ?_
              exact A_sub [1, 2, 3, 4, 0] rfl (ihL2 _ (lpc1 eL2 hqL2))
        exact A_sub [1, 2, 3, 4, 0] rfl (hLL2 _ _ eLL2)
      · replace h := it_t c h
        refine A_aload_n Γ dX0_tryPairs_22 0 rfl ?_
        refine A_iload_n Γ dX0_tryPairs_23 3 rfl ?_
        refine p0_46 Γ Ξ dX0_tryPairs_24 ?_
        refine A_aload_n Γ dX0_tryPairs_27 0 rfl ?_
        refine g0_44 Γ Ξ dX0_tryPairs_28 ?_
        refine A_iconst (v := 0) Γ dX0_tryPairs_31 (by decide) ?_
        refine A_aload_n Γ dX0_tryPairs_32 0 rfl ?_
        refine g0_45 Γ Ξ dX0_tryPairs_33 ?_
        refine A_iconst (v := 0) Γ dX0_tryPairs_36 (by decide) ?_
        refine A_bipush (v := 6) Γ dX0_tryPairs_37 (by decide) ?_
        replace h := b1 h
        obtain ⟨σ26, e27, h⟩ := h
        refine A_copy Γ Ξ (by decide) rfl rfl (by decide) rfl rfl e27 (rm_cp hRm (by omega) (by decide) (by omega)) dX0_tryPairs_39 ?_
        obtain rfl := inj1 h
        exact hret _ _ dX0_tryPairs_42
    refine A_icmp_eq (t := 18) Γ dX0_tryPairs_6 (by decide) (fun c => ?_) (fun c => ?_)
    · replace h := it_t c h
      exact A_sub [0, 1, 2, 3] rfl (hKK1  h)
    · replace h := it_f c h
      refine A_iload_n Γ dX0_tryPairs_9 3 rfl ?_
      refine A_aload_n Γ dX0_tryPairs_10 0 rfl ?_
      refine g0_46 Γ Ξ dX0_tryPairs_11 ?_
      refine A_icmp_lt (t := 18) Γ dX0_tryPairs_14 (by decide) (fun c => ?_) (fun c => ?_)
      · replace h := it_t c h
        exact A_sub [0, 1, 2, 3] rfl (hKK1  h)
      · replace h := it_f c h
        obtain rfl := inj1 h
        exact hret _ _ dX0_tryPairs_17
theorem mtX0_tryPairs (l : Launch) (X : Xw) (dd : Nat) {σ σ' : St} {a1 : Int32} {a2 : Nat} {a3 : Int32} (ka2 : kInt a2) (h : c_tryPairs dd σ a1 a2 a3 = some σ') : MetZ 0 l X yX0_tryPairs cX0_tryPairs 7 none (6 + dd) (153 + dd * 26) [.ref (xo X), .int a1, .ref (xad X a2), .int a3] σ (none) σ' := MetZ.ofAt (by decide) (Nat.le_of_ble_eq_true rfl) (fun G _ Γ Ξ hR hret => wkX0_tryPairs dd Γ Ξ hR ka2 h hret)
theorem kX0_X0tryPairs {G : Gx} {X : Xw} {cc : ByteArray} {nL pc F LO : Nat} {σ σ' : St} {lv : List (Nat × Value)} {st : List Value} (Γ : Ok G RX0 cc nL) (Ξ : OkX 0 G X) {a1 : Int32} {a2 : Nat} {a3 : Int32}  (hRm : Rm G F LO) (hf : 10 + 1 ≤ F) (hlo : 8 + (7 + 11) + 257 ≤ LO) (ka2 : kInt a2) (h : c_tryPairs 4 σ a1 a2 a3 = some σ') (hW : (st.map fun v => v.category).sum ≤ 8) (d : decode cc pc = .ok (.invokevirtual 404, 3)) (kk : At G nL σ' lv (st) (pc + 3)) : At G nL σ lv (.int a3 :: .ref (xad X a2) :: .int a1 :: .ref (xo X) :: st) pc := A_callV Γ Ξ rfl rfl (mtX0_tryPairs (gl G) X 4 ka2 h) (lw_V q969 q971 qs21 q63 q972) (n := 3) (by decide +kernel) (rm_ok hRm hf hlo) (rm_k hRm) rfl rfl hW d kk
set_option maxHeartbeats 4000000 in
set_option maxRecDepth 100000 in
theorem wkX0_pairs {G : Gx} {X : Xw} {σ σ' : St} {a1 : Int32} {a2 : Int32} (Γ : Ok G RX0 cX0_pairs 7) (Ξ : OkX 0 G X) (hRm : Rm G 11 283) {r : Int32} (h : c_pairs σ a1 a2 = some (r, σ')) (hret : ∀ (pc : Nat) (lv : List (Nat × Value)), retIs cX0_pairs (some .int) (some (.int r)) pc → At G 7 σ' lv [.int r] pc) : At G 7 σ [(0, .ref (xo X)), (1, .int a1), (2, .int a2)] [] 0 := by
  rw [c_pairs] at h
  refine A_iload_n Γ dX0_pairs_0 1 rfl ?_
  refine A_iconst (v := 0) Γ dX0_pairs_1 (by decide) ?_
  refine A_bipush (v := 63) Γ dX0_pairs_2 (by decide) ?_
  replace h := b1 h
  obtain ⟨v2, e1, h⟩ := h
  refine kX0_X0in Γ (kpX Ξ) hRm (by decide) (by decide) e1 (Nat.le_of_ble_eq_true rfl) dX0_pairs_4 ?_
  replace h := b1 h
  obtain ⟨x4, eJ3, h⟩ := h
  have hJJ3 : At G 7 σ [(0, .ref (xo X)), (1, .int a1), (2, .int a2)] [.int x4] 18 := by
    refine A_istore_n (lv' := [(3, .int x4), (0, .ref (xo X)), (1, .int a1), (2, .int a2)]) Γ dX0_pairs_18 (by decide) rfl ?_
    refine A_iload_n Γ dX0_pairs_19 0 rfl ?_
    refine A_iconst (v := 2) Γ dX0_pairs_20 (by decide) ?_
    refine A_icmp_lt (t := 38) Γ dX0_pairs_21 (by decide) (fun c => ?_) (fun c => ?_)
    · replace h := it_t c h
      refine A_iconst (v := (-1)) Γ dX0_pairs_38 (by decide) ?_
      obtain ⟨rfl, rfl⟩ := inj2 h
      exact hret _ _ dX0_pairs_39
    · replace h := it_f c h
      refine A_iload_n Γ dX0_pairs_24 0 rfl ?_
      refine A_iconst (v := 2) Γ dX0_pairs_25 (by decide) ?_
      refine A_irem Γ dX0_pairs_26 (by decide) ?_
      refine A_iconst (v := 1) Γ dX0_pairs_27 (by decide) ?_
      refine A_icmp_eq (t := 38) Γ dX0_pairs_28 (by decide) (fun c => ?_) (fun c => ?_)
      · replace h := it_t c h
        refine A_iconst (v := (-1)) Γ dX0_pairs_38 (by decide) ?_
        obtain ⟨rfl, rfl⟩ := inj2 h
        exact hret _ _ dX0_pairs_39
      · replace h := it_f c h
        refine A_iload_n Γ dX0_pairs_31 3 rfl ?_
        replace h := b1 h
        obtain ⟨v8, e7, h⟩ := h
        refine kX0_X0isRow Γ (kpX Ξ) hRm (by decide) (by decide) e7 (Nat.le_of_ble_eq_true rfl) dX0_pairs_32 ?_
        refine A_if_ne (t := 40) Γ dX0_pairs_35 (by decide) (fun c => ?_) (fun c => ?_)
        · replace h := it_f c h
          refine A_aload_n Γ dX0_pairs_40 1 rfl ?_
          refine g0_5 Γ Ξ dX0_pairs_41 ?_
          refine A_iload_n Γ dX0_pairs_44 3 rfl ?_
          replace h := b1 h
          obtain ⟨k9, e10, h⟩ := h
          refine A_rows Γ Ξ e10 dX0_pairs_45 ?_
          refine A_ifnonnull (t := 55) Γ dX0_pairs_46 (by decide) (fun cn11 => ?_) (fun cn11 => ?_)
          · replace h := it_t cn11 h
            refine A_aload_n Γ dX0_pairs_55 1 rfl ?_
            refine g0_5 Γ Ξ dX0_pairs_56 ?_
            refine A_iload_n Γ dX0_pairs_59 3 rfl ?_
            replace h := b1 h
            obtain ⟨k12, e13, h⟩ := h
            refine A_rowsD Γ Ξ e13 dX0_pairs_60 ?_
            replace h := b1 h
            obtain ⟨n14, e15, h⟩ := h
            refine A_alenD Γ Ξ (Or.inl (kInt_rowD e13)) rfl e15 dX0_pairs_61 ?_
            refine A_bipush (v := 6) Γ dX0_pairs_62 (by decide) ?_
            refine A_icmp_eq (t := 73) Γ dX0_pairs_64 (by decide) (fun c => ?_) (fun c => ?_)
            · replace h := it_t c h
              refine A_iconst (v := 1) Γ dX0_pairs_73 (by decide) ?_
              refine A_istore (lv' := [(4, .int 1), (3, .int x4), (0, .ref (xo X)), (1, .int a1), (2, .int a2)]) Γ dX0_pairs_74 (by decide) rfl ?_
              refine A_iconst (v := 1) Γ dX0_pairs_76 (by decide) ?_
              refine A_istore (lv' := [(5, .int 1), (4, .int 1), (3, .int x4), (0, .ref (xo X)), (1, .int a1), (2, .int a2)]) Γ dX0_pairs_77 (by decide) rfl ?_
              refine A_iconst (v := 0) Γ dX0_pairs_79 (by decide) ?_
              refine A_istore (lv' := [(6, .int 0), (5, .int 1), (4, .int 1), (3, .int x4), (0, .ref (xo X)), (1, .int a1), (2, .int a2)]) Γ dX0_pairs_80 (by decide) rfl ?_
              replace h := b2 h
              obtain ⟨x20, x21, eLL16, h⟩ := h
              have hXL16 : At G 7 σ [(0, .ref (xo X)), (1, .int a1), (2, .int a2), (4, .int x20), (5, .int x21)] [] 140 := by
                refine A_iload Γ dX0_pairs_140 3 rfl ?_
                refine A_if_ne (t := 151) Γ dX0_pairs_142 (by decide) (fun c => ?_) (fun c => ?_)
                · replace h := it_f c h
                  refine A_iload Γ dX0_pairs_151 4 rfl ?_
                  refine A_if_ne (t := 159) Γ dX0_pairs_153 (by decide) (fun c => ?_) (fun c => ?_)
                  · replace h := it_f c h
                    refine A_aload_n Γ dX0_pairs_159 0 rfl ?_
                    refine A_bipush (v := (-9)) Γ dX0_pairs_160 (by decide) ?_
                    refine p0_46 Γ Ξ dX0_pairs_162 ?_
                    refine A_iconst (v := 0) Γ dX0_pairs_165 (by decide) ?_
                    refine A_istore (lv' := [(6, .int 0), (0, .ref (xo X)), (1, .int a1), (2, .int a2), (4, .int x20), (5, .int x21)]) Γ dX0_pairs_166 (by decide) rfl ?_
                    replace h := b1 h
                    obtain ⟨σ35, eLL32, h⟩ := h
                    have hXL32 : At G 7 σ35 [(0, .ref (xo X)), (1, .int a1), (2, .int a2)] [] 190 := by
                      refine A_aload_n Γ dX0_pairs_190 0 rfl ?_
                      refine A_iload_n Γ dX0_pairs_191 1 rfl ?_
                      refine A_aload_n Γ dX0_pairs_192 0 rfl ?_
                      refine g0_5 Γ Ξ dX0_pairs_193 ?_
                      refine A_iload_n Γ dX0_pairs_196 2 rfl ?_
                      replace h := b1 h
                      obtain ⟨k38, e39, h⟩ := h
                      refine A_rowsD Γ Ξ e39 dX0_pairs_197 ?_
                      refine A_iconst (v := 0) Γ dX0_pairs_198 (by decide) ?_
                      replace h := b1 h
                      obtain ⟨σ41, e40, h⟩ := h
                      refine kX0_X0tryPairs Γ Ξ hRm (by decide) (by decide) (kInt_rowD e39) e40 (Nat.le_of_ble_eq_true rfl) dX0_pairs_199 ?_
                      refine A_aload_n Γ dX0_pairs_202 0 rfl ?_
                      refine g0_46 Γ Ξ dX0_pairs_203 ?_
                      refine A_bipush (v := (-9)) Γ dX0_pairs_206 (by decide) ?_
                      refine A_icmp_ne (t := 217) Γ dX0_pairs_208 (by decide) (fun c => ?_) (fun c => ?_)
                      · replace h := it_f c h
                        refine A_aload_n Γ dX0_pairs_217 0 rfl ?_
                        refine g0_45 Γ Ξ dX0_pairs_218 ?_
                        refine A_iconst (v := 0) Γ dX0_pairs_221 (by decide) ?_
                        refine A_aload_n Γ dX0_pairs_222 0 rfl ?_
                        refine g0_43 Γ Ξ dX0_pairs_223 ?_
                        refine A_iconst (v := 0) Γ dX0_pairs_226 (by decide) ?_
                        refine A_bipush (v := 6) Γ dX0_pairs_227 (by decide) ?_
                        replace h := b1 h
                        obtain ⟨σ42, e43, h⟩ := h
                        refine A_copy Γ Ξ (by decide) rfl rfl (by decide) rfl rfl e43 (rm_cp hRm (by decide) (by decide) (by decide)) dX0_pairs_229 ?_
                        refine A_aload_n Γ dX0_pairs_232 0 rfl ?_
                        refine g0_46 Γ Ξ dX0_pairs_233 ?_
                        obtain ⟨rfl, rfl⟩ := inj2 h
                        exact hret _ _ dX0_pairs_236
                      · replace h := it_t c h
                        refine A_aload_n Γ dX0_pairs_211 0 rfl ?_
                        refine A_iconst (v := 1) Γ dX0_pairs_212 (by decide) ?_
                        replace h := b2 h
                        obtain ⟨v45, σ46, e44, h⟩ := h
                        refine kX0_X0found Γ Ξ hRm (by decide) (by decide) e44 (Nat.le_of_ble_eq_true rfl) dX0_pairs_213 ?_
                        obtain ⟨rfl, rfl⟩ := inj2 h
                        exact hret _ _ dX0_pairs_216
                    replace eLL32 := lq2_ex eLL32
                    obtain ⟨nL32, eLL32⟩ := eLL32
                    have hLL32 : ∀ (nL32 : Nat) (σ33 : St) (x34 : Int32), lpf2 (c_pairs_L32) nL32 σ33 x34 = some σ35 → At G 7 σ33 [(0, .ref (xo X)), (1, .int a1), (2, .int a2), (6, .int x34)] [] 168 := by
                      intro nL32
                      induction nL32 with
                      | zero => intro σ33 x34 eL32; exact (lpf2_0 eL32).elim
                      | succ nL32 ihL32 =>
                        intro σ33 x34 eL32
                        replace eL32 := lpf2_s eL32
                        obtain ⟨qL32, eL32, hqL32⟩ := eL32
                        rw [c_pairs_L32] at eL32
                        refine A_iload Γ dX0_pairs_168 3 rfl ?_
                        refine A_bipush (v := 6) Γ dX0_pairs_170 (by decide) ?_
                        refine A_icmp_ge (t := 190) Γ dX0_pairs_172 (by decide) (fun c => ?_) (fun c => ?_)
                        · replace eL32 := it_t c eL32
                          obtain rfl := pr1 (lpx2 eL32 hqL32)
                          exact A_sub [0, 1, 2] rfl hXL32
                        · replace eL32 := it_f c eL32
                          refine A_aload_n Γ dX0_pairs_175 0 rfl ?_
                          refine g0_44 Γ Ξ dX0_pairs_176 ?_
                          refine A_iload Γ dX0_pairs_179 3 rfl ?_
                          refine A_bipush (v := (-9)) Γ dX0_pairs_181 (by decide) ?_
                          replace eL32 := b1 eL32
                          obtain ⟨σ36, e37, eL32⟩ := eL32
                          refine w0_44 Γ Ξ e37 dX0_pairs_183 ?_
                          refine A_iinc (v := x34 + 1) (lv' := [(6, .int (x34 + 1)), (0, .ref (xo X)), (1, .int a1), (2, .int a2)]) Γ dX0_pairs_184 3 rfl rfl (by decide) rfl ?_
                          refine A_goto (t := 168) Γ dX0_pairs_187 (by decide) ?_
                          exact A_sub [1, 2, 3, 0] rfl (ihL32 _ _ (lpc2 eL32 hqL32))
                    exact A_sub [1, 2, 3, 0] rfl (hLL32 _ _ _ eLL32)
                  · replace h := it_t c h
                    refine A_bipush (v := (-4)) Γ dX0_pairs_156 (by decide) ?_
                    obtain ⟨rfl, rfl⟩ := inj2 h
                    exact hret _ _ dX0_pairs_158
                · replace h := it_t c h
                  refine A_aload_n Γ dX0_pairs_145 0 rfl ?_
                  refine A_iconst (v := 3) Γ dX0_pairs_146 (by decide) ?_
                  replace h := b2 h
                  obtain ⟨v48, σ49, e47, h⟩ := h
                  refine kX0_X0found Γ Ξ hRm (by decide) (by decide) e47 (Nat.le_of_ble_eq_true rfl) dX0_pairs_147 ?_
                  obtain ⟨rfl, rfl⟩ := inj2 h
                  exact hret _ _ dX0_pairs_150
              replace eLL16 := lq3_ex eLL16
              obtain ⟨nL16, eLL16⟩ := eLL16
              have hLL16 : ∀ (nL16 : Nat) (x17 : Int32) (x18 : Int32) (x19 : Int32), lpf3 (c_pairs_L16 σ a1 a2) nL16 x17 x18 x19 = some (x20, x21) → At G 7 σ [(0, .ref (xo X)), (1, .int a1), (2, .int a2), (4, .int x17), (5, .int x18), (6, .int x19)] [] 82 := by
                intro nL16
                induction nL16 with
                | zero => intro x17 x18 x19 eL16; exact (lpf3_0 eL16).elim
                | succ nL16 ihL16 =>
                  intro x17 x18 x19 eL16
                  replace eL16 := lpf3_s eL16
                  obtain ⟨qL16, eL16, hqL16⟩ := eL16
                  rw [c_pairs_L16] at eL16
                  refine A_iload Γ dX0_pairs_82 5 rfl ?_
                  refine A_bipush (v := 6) Γ dX0_pairs_84 (by decide) ?_
                  refine A_icmp_ge (t := 140) Γ dX0_pairs_86 (by decide) (fun c => ?_) (fun c => ?_)
                  · replace eL16 := it_t c eL16
                    obtain ⟨rfl, rfl⟩ := pr2 (lpx3 eL16 hqL16)
                    exact A_sub [0, 1, 2, 3, 4] rfl hXL16
                  · replace eL16 := it_f c eL16
                    refine A_iload Γ dX0_pairs_89 3 rfl ?_
                    refine A_aload_n Γ dX0_pairs_91 0 rfl ?_
                    refine g0_5 Γ Ξ dX0_pairs_92 ?_
                    refine A_iload_n Γ dX0_pairs_95 2 rfl ?_
                    replace eL16 := b1 eL16
                    obtain ⟨k22, e23, eL16⟩ := eL16
                    refine A_rowsD Γ Ξ e23 dX0_pairs_96 ?_
                    refine A_iload Γ dX0_pairs_97 5 rfl ?_
                    replace eL16 := b1 eL16
                    obtain ⟨v24, e25, eL16⟩ := eL16
                    refine A_aldD Γ Ξ (kInt_rowD e23) rfl e25 dX0_pairs_99 ?_
                    replace eL16 := b1 eL16
                    obtain ⟨v27, e26, eL16⟩ := eL16
                    refine kX0_X0isYard Γ (kpX Ξ) hRm (by decide) (by decide) e26 (Nat.le_of_ble_eq_true rfl) dX0_pairs_100 ?_
                    refine A_iand Γ dX0_pairs_103 ?_
                    refine A_istore (lv' := [(4, .int (x17 &&& v27)), (0, .ref (xo X)), (1, .int a1), (2, .int a2), (5, .int x18), (6, .int x19)]) Γ dX0_pairs_104 (by decide) rfl ?_
                    refine A_iload Γ dX0_pairs_106 4 rfl ?_
                    refine A_iload_n Γ dX0_pairs_108 2 rfl ?_
                    refine A_iload Γ dX0_pairs_109 5 rfl ?_
                    refine A_ishr Γ dX0_pairs_111 ?_
                    refine A_iconst (v := 1) Γ dX0_pairs_112 (by decide) ?_
                    refine A_iand Γ dX0_pairs_113 ?_
                    replace eL16 := b1 eL16
                    obtain ⟨x29, eJ28, eL16⟩ := eL16
                    have hJJ28 : At G 7 σ [(0, .ref (xo X)), (1, .int a1), (2, .int a2), (4, .int (x17 &&& v27)), (6, .int x19)] [.int x29, .int x18] 131 := by
                      refine A_iand Γ dX0_pairs_131 ?_
                      refine A_istore (lv' := [(5, .int (x18 &&& x29)), (0, .ref (xo X)), (1, .int a1), (2, .int a2), (4, .int (x17 &&& v27)), (6, .int x19)]) Γ dX0_pairs_132 (by decide) rfl ?_
                      refine A_iinc (v := x19 + 1) (lv' := [(6, .int (x19 + 1)), (5, .int (x18 &&& x29)), (0, .ref (xo X)), (1, .int a1), (2, .int a2), (4, .int (x17 &&& v27))]) Γ dX0_pairs_134 5 rfl rfl (by decide) rfl ?_
                      refine A_goto (t := 82) Γ dX0_pairs_137 (by decide) ?_
                      exact A_sub [2, 3, 4, 5, 1, 0] rfl (ihL16 _ _ _ (lpc3 eL16 hqL16))
                    refine A_if_eq (t := 126) Γ dX0_pairs_114 (by decide) (fun c => ?_) (fun c => ?_)
                    · replace eJ28 := it_t c eJ28
                      refine A_iconst (v := 1) Γ dX0_pairs_126 (by decide) ?_
                      refine A_goto (t := 131) Γ dX0_pairs_127 (by decide) ?_
                      obtain rfl := inj1 eJ28
                      exact A_sub [1, 2, 3, 0, 5] rfl hJJ28
                    · replace eJ28 := it_f c eJ28
                      refine A_aload_n Γ dX0_pairs_117 1 rfl ?_
                      refine A_iload Γ dX0_pairs_118 5 rfl ?_
                      replace eJ28 := b1 eJ28
                      obtain ⟨v31, e30, eJ28⟩ := eJ28
                      refine kX0_X0maySwap Γ Ξ hRm (by decide) (by decide) e30 (Nat.le_of_ble_eq_true rfl) dX0_pairs_120 ?_
                      refine A_if_eq (t := 130) Γ dX0_pairs_123 (by decide) (fun c => ?_) (fun c => ?_)
                      · replace eJ28 := it_t c eJ28
                        refine A_iconst (v := 0) Γ dX0_pairs_130 (by decide) ?_
                        obtain rfl := inj1 eJ28
                        exact A_sub [1, 2, 3, 0, 5] rfl hJJ28
                      · replace eJ28 := it_f c eJ28
                        refine A_iconst (v := 1) Γ dX0_pairs_126 (by decide) ?_
                        refine A_goto (t := 131) Γ dX0_pairs_127 (by decide) ?_
                        obtain rfl := inj1 eJ28
                        exact A_sub [1, 2, 3, 0, 5] rfl hJJ28
              exact A_sub [4, 5, 6, 2, 1, 0] rfl (hLL16 _ _ _ _ eLL16)
            · replace h := it_f c h
              refine A_aload_n Γ dX0_pairs_67 1 rfl ?_
              refine A_iconst (v := 5) Γ dX0_pairs_68 (by decide) ?_
              replace h := b2 h
              obtain ⟨v51, σ52, e50, h⟩ := h
              refine kX0_X0found Γ Ξ hRm (by decide) (by decide) e50 (Nat.le_of_ble_eq_true rfl) dX0_pairs_69 ?_
              obtain ⟨rfl, rfl⟩ := inj2 h
              exact hret _ _ dX0_pairs_72
          · replace h := it_f cn11 h
            refine A_aload_n Γ dX0_pairs_49 1 rfl ?_
            refine A_iconst (v := 1) Γ dX0_pairs_50 (by decide) ?_
            replace h := b2 h
            obtain ⟨v54, σ55, e53, h⟩ := h
            refine kX0_X0found Γ Ξ hRm (by decide) (by decide) e53 (Nat.le_of_ble_eq_true rfl) dX0_pairs_51 ?_
            obtain ⟨rfl, rfl⟩ := inj2 h
            exact hret _ _ dX0_pairs_54
        · replace h := it_t c h
          refine A_iconst (v := (-1)) Γ dX0_pairs_38 (by decide) ?_
          obtain ⟨rfl, rfl⟩ := inj2 h
          exact hret _ _ dX0_pairs_39
  refine A_if_eq (t := 17) Γ dX0_pairs_7 (by decide) (fun c => ?_) (fun c => ?_)
  · replace eJ3 := it_t c eJ3
    refine A_iconst (v := 0) Γ dX0_pairs_17 (by decide) ?_
    obtain rfl := inj1 eJ3
    exact A_sub [0, 1, 2] rfl hJJ3
  · replace eJ3 := it_f c eJ3
    refine A_iload_n Γ dX0_pairs_10 1 rfl ?_
    replace eJ3 := b1 eJ3
    obtain ⟨v6, e5, eJ3⟩ := eJ3
    refine kX0_J11bitCount Γ (kpX Ξ) hRm (by decide) (by decide) e5 (Nat.le_of_ble_eq_true rfl) dX0_pairs_11 ?_
    refine A_goto (t := 18) Γ dX0_pairs_14 (by decide) ?_
    obtain rfl := inj1 eJ3
    exact A_sub [0, 1, 2] rfl hJJ3
theorem mtX0_pairs (l : Launch) (X : Xw) {σ σ' : St} {a1 : Int32} {a2 : Int32} {r : Int32} (h : c_pairs σ a1 a2 = some (r, σ')) : MetZ 0 l X yX0_pairs cX0_pairs 7 (some .int) 11 283 [.ref (xo X), .int a1, .int a2] σ (some (.int r)) σ' := MetZ.ofAt (by decide) (Nat.le_of_ble_eq_true rfl) (fun G _ Γ Ξ hR hret => wkX0_pairs Γ Ξ hR h hret)

set_option maxHeartbeats 4000000 in
set_option maxRecDepth 100000 in
theorem wkX0_partner {G : Gx} {X : Xw} {σ : St} {a1 : Int32} (Γ : Ok G RX0 cX0_partner 2) (Ξ : OkX 0 G X) (hRm : Rm G 2 42) {r : Int32} (h : c_partner σ a1 = some r) (hret : ∀ (pc : Nat) (lv : List (Nat × Value)), retIs cX0_partner (some .int) (some (.int r)) pc → At G 2 σ lv [.int r] pc) : At G 2 σ [(0, .ref (xo X)), (1, .int a1)] [] 0 := by
  rw [c_partner] at h
  refine A_iload_n Γ dX0_partner_0 1 rfl ?_
  replace h := b1 h
  obtain ⟨v2, e1, h⟩ := h
  refine kX0_X0isTractor Γ (kpX Ξ) hRm (by decide) (by decide) e1 (Nat.le_of_ble_eq_true rfl) dX0_partner_1 ?_
  replace h := b1 h
  obtain ⟨x4, eJ3, h⟩ := h
  have hJJ3 : At G 2 σ [] [.int x4] 17 := by
    obtain rfl := inj1 h
    exact hret _ _ dX0_partner_17
  refine A_if_eq (t := 16) Γ dX0_partner_4 (by decide) (fun c => ?_) (fun c => ?_)
  · replace eJ3 := it_t c eJ3
    refine A_iconst (v := (-1)) Γ dX0_partner_16 (by decide) ?_
    obtain rfl := inj1 eJ3
    exact A_sub [] rfl hJJ3
  · replace eJ3 := it_f c eJ3
    refine A_aload_n Γ dX0_partner_7 0 rfl ?_
    refine g0_43 Γ Ξ dX0_partner_8 ?_
    refine A_iload_n Γ dX0_partner_11 1 rfl ?_
    replace eJ3 := b1 eJ3
    obtain ⟨v5, e6, eJ3⟩ := eJ3
    refine r0_43 Γ Ξ e6 dX0_partner_12 ?_
    refine A_goto (t := 17) Γ dX0_partner_13 (by decide) ?_
    obtain rfl := inj1 eJ3
    exact A_sub [] rfl hJJ3
theorem mtX0_partner (l : Launch) (X : Xw) {σ : St} {a1 : Int32} {r : Int32} (h : c_partner σ a1 = some r) : MetZ 0 l X yX0_partner cX0_partner 2 (some .int) 2 42 [.ref (xo X), .int a1] σ (some (.int r)) σ := MetZ.ofAt (by decide) (Nat.le_of_ble_eq_true rfl) (fun G _ Γ Ξ hR hret => wkX0_partner Γ Ξ hR h hret)

set_option maxHeartbeats 4000000 in
set_option maxRecDepth 100000 in
theorem wkX0_late {G : Gx} {X : Xw} {σ σ' : St} {a1 : Int32} {a2 : Int32} {a3 : Int32} {a4 : Int32} {a5 : Int32} {a6 : Int32} (Γ : Ok G RX0 cX0_late 16) (Ξ : OkX 0 G X) (hRm : Rm G 5 120) {r : Int32} (h : c_late σ a1 a2 a3 a4 a5 a6 = some (r, σ')) (hret : ∀ (pc : Nat) (lv : List (Nat × Value)), retIs cX0_late (some .int) (some (.int r)) pc → At G 16 σ' lv [.int r] pc) : At G 16 σ [(0, .ref (xo X)), (1, .int a1), (2, .int a2), (3, .int a3), (4, .int a4), (5, .int a5), (6, .int a6)] [] 0 := by
  rw [c_late] at h
  refine A_iload_n Γ dX0_late_0 1 rfl ?_
  replace h := b1 h
  obtain ⟨v2, e1, h⟩ := h
  refine kX0_X0isTractor Γ (kpX Ξ) hRm (by decide) (by decide) e1 (Nat.le_of_ble_eq_true rfl) dX0_late_1 ?_
  refine A_if_eq (t := 54) Γ dX0_late_4 (by decide) (fun c => ?_) (fun c => ?_)
  · replace h := it_t c h
    refine A_iconst (v := (-1)) Γ dX0_late_54 (by decide) ?_
    obtain ⟨rfl, rfl⟩ := inj2 h
    exact hret _ _ dX0_late_55
  · replace h := it_f c h
    refine A_iload_n Γ dX0_late_7 2 rfl ?_
    replace h := b1 h
    obtain ⟨v4, e3, h⟩ := h
    refine kX0_X0isTractor Γ (kpX Ξ) hRm (by decide) (by decide) e3 (Nat.le_of_ble_eq_true rfl) dX0_late_8 ?_
    refine A_if_eq (t := 54) Γ dX0_late_11 (by decide) (fun c => ?_) (fun c => ?_)
    · replace h := it_t c h
      refine A_iconst (v := (-1)) Γ dX0_late_54 (by decide) ?_
      obtain ⟨rfl, rfl⟩ := inj2 h
      exact hret _ _ dX0_late_55
    · replace h := it_f c h
      refine A_iload_n Γ dX0_late_14 1 rfl ?_
      refine A_iload_n Γ dX0_late_15 2 rfl ?_
      refine A_icmp_eq (t := 54) Γ dX0_late_16 (by decide) (fun c => ?_) (fun c => ?_)
      · replace h := it_t c h
        refine A_iconst (v := (-1)) Γ dX0_late_54 (by decide) ?_
        obtain ⟨rfl, rfl⟩ := inj2 h
        exact hret _ _ dX0_late_55
      · replace h := it_f c h
        refine A_iload_n Γ dX0_late_19 3 rfl ?_
        replace h := b1 h
        obtain ⟨v6, e5, h⟩ := h
        refine kX0_X0isYard Γ (kpX Ξ) hRm (by decide) (by decide) e5 (Nat.le_of_ble_eq_true rfl) dX0_late_20 ?_
        refine A_if_eq (t := 54) Γ dX0_late_23 (by decide) (fun c => ?_) (fun c => ?_)
        · replace h := it_t c h
          refine A_iconst (v := (-1)) Γ dX0_late_54 (by decide) ?_
          obtain ⟨rfl, rfl⟩ := inj2 h
          exact hret _ _ dX0_late_55
        · replace h := it_f c h
          refine A_iload Γ dX0_late_26 4 rfl ?_
          replace h := b1 h
          obtain ⟨v8, e7, h⟩ := h
          refine kX0_X0isYard Γ (kpX Ξ) hRm (by decide) (by decide) e7 (Nat.le_of_ble_eq_true rfl) dX0_late_28 ?_
          refine A_if_eq (t := 54) Γ dX0_late_31 (by decide) (fun c => ?_) (fun c => ?_)
          · replace h := it_t c h
            refine A_iconst (v := (-1)) Γ dX0_late_54 (by decide) ?_
            obtain ⟨rfl, rfl⟩ := inj2 h
            exact hret _ _ dX0_late_55
          · replace h := it_f c h
            refine A_iload Γ dX0_late_34 5 rfl ?_
            refine A_iconst (v := 0) Γ dX0_late_36 (by decide) ?_
            refine A_sipush (v := 2000) Γ dX0_late_37 (by decide) ?_
            replace h := b1 h
            obtain ⟨v10, e9, h⟩ := h
            refine kX0_X0in Γ (kpX Ξ) hRm (by decide) (by decide) e9 (Nat.le_of_ble_eq_true rfl) dX0_late_40 ?_
            refine A_if_eq (t := 54) Γ dX0_late_43 (by decide) (fun c => ?_) (fun c => ?_)
            · replace h := it_t c h
              refine A_iconst (v := (-1)) Γ dX0_late_54 (by decide) ?_
              obtain ⟨rfl, rfl⟩ := inj2 h
              exact hret _ _ dX0_late_55
            · replace h := it_f c h
              refine A_iload Γ dX0_late_46 6 rfl ?_
              replace h := b1 h
              obtain ⟨v12, e11, h⟩ := h
              refine kX0_X0isMinute Γ (kpX Ξ) hRm (by decide) (by decide) e11 (Nat.le_of_ble_eq_true rfl) dX0_late_48 ?_
              refine A_if_ne (t := 56) Γ dX0_late_51 (by decide) (fun c => ?_) (fun c => ?_)
              · replace h := it_f c h
                refine A_aload_n Γ dX0_late_56 0 rfl ?_
                refine A_iload_n Γ dX0_late_57 1 rfl ?_
                replace h := b1 h
                obtain ⟨v14, e13, h⟩ := h
                refine kX0_X0maySwap Γ Ξ hRm (by decide) (by decide) e13 (Nat.le_of_ble_eq_true rfl) dX0_late_58 ?_
                refine A_if_eq (t := 72) Γ dX0_late_61 (by decide) (fun c => ?_) (fun c => ?_)
                · replace h := it_t c h
                  refine A_bipush (v := (-4)) Γ dX0_late_72 (by decide) ?_
                  obtain ⟨rfl, rfl⟩ := inj2 h
                  exact hret _ _ dX0_late_74
                · replace h := it_f c h
                  refine A_aload_n Γ dX0_late_64 0 rfl ?_
                  refine A_iload_n Γ dX0_late_65 2 rfl ?_
                  replace h := b1 h
                  obtain ⟨v16, e15, h⟩ := h
                  refine kX0_X0maySwap Γ Ξ hRm (by decide) (by decide) e15 (Nat.le_of_ble_eq_true rfl) dX0_late_66 ?_
                  refine A_if_ne (t := 75) Γ dX0_late_69 (by decide) (fun c => ?_) (fun c => ?_)
                  · replace h := it_f c h
                    refine A_aload_n Γ dX0_late_75 0 rfl ?_
                    refine A_aload_n Γ dX0_late_76 0 rfl ?_
                    refine g0_28 Γ Ξ dX0_late_77 ?_
                    refine A_iload_n Γ dX0_late_80 1 rfl ?_
                    replace h := b1 h
                    obtain ⟨v17, e18, h⟩ := h
                    refine r0_28 Γ Ξ e18 dX0_late_81 ?_
                    refine A_aload_n Γ dX0_late_82 0 rfl ?_
                    refine g0_11 Γ Ξ dX0_late_83 ?_
                    refine A_iload Γ dX0_late_86 4 rfl ?_
                    replace h := b2 h
                    obtain ⟨v20, σ21, e19, h⟩ := h
                    refine kX0_X0comesTo Γ Ξ hRm (by decide) (by decide) e19 (Nat.le_of_ble_eq_true rfl) dX0_late_88 ?_
                    refine A_istore (lv' := [(7, .int v20), (0, .ref (xo X)), (1, .int a1), (2, .int a2), (3, .int a3), (4, .int a4), (5, .int a5), (6, .int a6)]) Γ dX0_late_91 (by decide) rfl ?_
                    refine A_aload_n Γ dX0_late_93 1 rfl ?_
                    refine A_aload_n Γ dX0_late_94 1 rfl ?_
                    refine g0_28 Γ Ξ dX0_late_95 ?_
                    refine A_iload_n Γ dX0_late_98 3 rfl ?_
                    replace h := b1 h
                    obtain ⟨v22, e23, h⟩ := h
                    refine r0_28 Γ Ξ e23 dX0_late_99 ?_
                    refine A_aload_n Γ dX0_late_100 1 rfl ?_
                    refine g0_11 Γ Ξ dX0_late_101 ?_
                    refine A_iload Γ dX0_late_104 5 rfl ?_
                    replace h := b2 h
                    obtain ⟨v25, σ26, e24, h⟩ := h
                    refine kX0_X0comesTo Γ Ξ hRm (by decide) (by decide) e24 (Nat.le_of_ble_eq_true rfl) dX0_late_106 ?_
                    refine A_istore (lv' := [(8, .int v25), (7, .int v20), (0, .ref (xo X)), (1, .int a1), (2, .int a2), (3, .int a3), (4, .int a4), (5, .int a5), (6, .int a6)]) Γ dX0_late_109 (by decide) rfl ?_
                    refine A_iload Γ dX0_late_111 1 rfl ?_
                    refine A_bipush (v := (-9)) Γ dX0_late_113 (by decide) ?_
                    refine A_icmp_eq (t := 125) Γ dX0_late_115 (by decide) (fun c => ?_) (fun c => ?_)
                    · replace h := it_t c h
                      refine A_aload_n Γ dX0_late_125 2 rfl ?_
                      refine A_iconst (v := 1) Γ dX0_late_126 (by decide) ?_
                      replace h := b2 h
                      obtain ⟨v28, σ29, e27, h⟩ := h
                      refine kX0_X0found Γ Ξ hRm (by decide) (by decide) e27 (Nat.le_of_ble_eq_true rfl) dX0_late_127 ?_
                      obtain ⟨rfl, rfl⟩ := inj2 h
                      exact hret _ _ dX0_late_130
                    · replace h := it_f c h
                      refine A_iload Γ dX0_late_118 0 rfl ?_
                      refine A_bipush (v := (-9)) Γ dX0_late_120 (by decide) ?_
                      refine A_icmp_ne (t := 131) Γ dX0_late_122 (by decide) (fun c => ?_) (fun c => ?_)
                      · replace h := it_f c h
                        refine A_aload_n Γ dX0_late_131 2 rfl ?_
                        refine A_iload Γ dX0_late_132 6 rfl ?_
                        refine A_iload Γ dX0_late_134 1 rfl ?_
                        refine A_iload Γ dX0_late_136 7 rfl ?_
                        refine A_iadd Γ dX0_late_138 ?_
                        refine A_iload Γ dX0_late_139 0 rfl ?_
                        replace h := b1 h
                        obtain ⟨v31, e30, h⟩ := h
                        refine kX0_J8max Γ (kpX Ξ) hRm (by decide) (by decide) e30 (Nat.le_of_ble_eq_true rfl) dX0_late_141 ?_
                        refine A_bipush (v := 10) Γ dX0_late_144 (by decide) ?_
                        refine A_iadd Γ dX0_late_146 ?_
                        refine A_iload_n Γ dX0_late_147 5 rfl ?_
                        replace h := b2 h
                        obtain ⟨v33, σ34, e32, h⟩ := h
                        refine kX0_X0homeAt Γ Ξ hRm (by decide) (by decide) e32 (Nat.le_of_ble_eq_true rfl) dX0_late_148 ?_
                        refine A_istore (lv' := [(9, .int v33), (8, .int v25), (7, .int v20), (0, .ref (xo X)), (1, .int a1), (2, .int a2), (3, .int a3), (4, .int a4), (5, .int a5), (6, .int a6)]) Γ dX0_late_151 (by decide) rfl ?_
                        refine A_iload Γ dX0_late_153 0 rfl ?_
                        refine A_bipush (v := (-9)) Γ dX0_late_155 (by decide) ?_
                        refine A_icmp_ne (t := 166) Γ dX0_late_157 (by decide) (fun c => ?_) (fun c => ?_)
                        · replace h := it_f c h
                          refine A_aload_n Γ dX0_late_166 3 rfl ?_
                          refine g0_18 Γ Ξ dX0_late_167 ?_
                          refine A_aload_n Γ dX0_late_170 3 rfl ?_
                          refine g0_30 Γ Ξ dX0_late_171 ?_
                          refine A_iload_n Γ dX0_late_174 4 rfl ?_
                          replace h := b1 h
                          obtain ⟨v35, e36, h⟩ := h
                          refine r0_30 Γ Ξ e36 dX0_late_175 ?_
                          replace h := b1 h
                          obtain ⟨k37, e38, h⟩ := h
                          refine A_trsD Γ Ξ e38 dX0_late_176 ?_
                          replace h := b1 h
                          obtain ⟨v39, e40, h⟩ := h
                          refine gTX0_1 Γ Ξ (kTr_tD e38) rfl e40 dX0_late_177 ?_
                          refine A_istore (lv' := [(10, .int v39), (9, .int v33), (8, .int v25), (7, .int v20), (0, .ref (xo X)), (1, .int a1), (2, .int a2), (3, .int a3), (4, .int a4), (5, .int a5), (6, .int a6)]) Γ dX0_late_180 (by decide) rfl ?_
                          refine A_aload_n Γ dX0_late_182 4 rfl ?_
                          refine g0_18 Γ Ξ dX0_late_183 ?_
                          refine A_aload_n Γ dX0_late_186 4 rfl ?_
                          refine g0_30 Γ Ξ dX0_late_187 ?_
                          refine A_iload_n Γ dX0_late_190 6 rfl ?_
                          replace h := b1 h
                          obtain ⟨v41, e42, h⟩ := h
                          refine r0_30 Γ Ξ e42 dX0_late_191 ?_
                          replace h := b1 h
                          obtain ⟨k43, e44, h⟩ := h
                          refine A_trsD Γ Ξ e44 dX0_late_192 ?_
                          replace h := b1 h
                          obtain ⟨v45, e46, h⟩ := h
                          refine gTX0_1 Γ Ξ (kTr_tD e44) rfl e46 dX0_late_193 ?_
                          refine A_istore (lv' := [(11, .int v45), (10, .int v39), (9, .int v33), (8, .int v25), (7, .int v20), (0, .ref (xo X)), (1, .int a1), (2, .int a2), (3, .int a3), (4, .int a4), (5, .int a5), (6, .int a6)]) Γ dX0_late_196 (by decide) rfl ?_
                          refine A_iconst (v := 0) Γ dX0_late_198 (by decide) ?_
                          refine A_iload Γ dX0_late_199 2 rfl ?_
                          refine A_iload Γ dX0_late_201 11 rfl ?_
                          refine A_isub Γ dX0_late_203 ?_
                          replace h := b1 h
                          obtain ⟨v48, e47, h⟩ := h
                          refine kX0_J8max Γ (kpX Ξ) hRm (by decide) (by decide) e47 (Nat.le_of_ble_eq_true rfl) dX0_late_204 ?_
                          refine A_i2l Γ dX0_late_207 ?_
                          refine A_iload Γ dX0_late_208 0 rfl ?_
                          refine A_i2l Γ dX0_late_210 ?_
                          refine A_lmul Γ dX0_late_211 ?_
                          refine A_ldc2 (v := 1000) Γ q981 dX0_late_212 ?_
                          refine A_ldiv Γ dX0_late_215 (by decide) ?_
                          refine A_lstore (lv' := [(12, .long ((v48.toInt64 * v45.toInt64) / 1000)), (11, .int v45), (10, .int v39), (9, .int v33), (8, .int v25), (7, .int v20), (0, .ref (xo X)), (1, .int a1), (2, .int a2), (3, .int a3), (4, .int a4), (5, .int a5), (6, .int a6)]) Γ dX0_late_216 (by decide) rfl ?_
                          refine A_iload Γ dX0_late_218 2 rfl ?_
                          refine A_iload Γ dX0_late_220 1 rfl ?_
                          refine A_iadd Γ dX0_late_222 ?_
                          refine A_bipush (v := 10) Γ dX0_late_223 (by decide) ?_
                          refine A_idiv Γ dX0_late_225 (by decide) ?_
                          refine A_i2l Γ dX0_late_226 ?_
                          refine A_lstore (lv' := [(14, .long (((v39 + v45) / 10).toInt64)), (12, .long ((v48.toInt64 * v45.toInt64) / 1000)), (11, .int v45), (10, .int v39), (9, .int v33), (8, .int v25), (7, .int v20), (0, .ref (xo X)), (1, .int a1), (2, .int a2), (3, .int a3), (4, .int a4), (5, .int a5), (6, .int a6)]) Γ dX0_late_227 (by decide) rfl ?_
                          refine A_lload Γ dX0_late_229 1 rfl ?_
                          refine A_lload Γ dX0_late_231 0 rfl ?_
                          refine A_lcmp Γ dX0_late_233 ?_
                          replace h := b2 h
                          obtain ⟨σ50, x51, eJ49, h⟩ := h
                          have hJJ49 : At G 16 σ50 [] [.int x51] 256 := by
                            obtain ⟨rfl, rfl⟩ := inj2 h
                            exact hret _ _ dX0_late_256
                          refine A_if_gt (t := 248) Γ dX0_late_234 (by decide) (fun c => ?_) (fun c => ?_)
                          · replace eJ49 := it_t c eJ49
                            refine A_aload_n Γ dX0_late_248 7 rfl ?_
                            refine A_lload Γ dX0_late_249 0 rfl ?_
                            refine A_l2i Γ dX0_late_251 ?_
                            refine A_iconst (v := 0) Γ dX0_late_252 (by decide) ?_
                            replace eJ49 := b2 eJ49
                            obtain ⟨v53, σ54, e52, eJ49⟩ := eJ49
                            refine kX0_X0say Γ Ξ hRm (by decide) (by decide) e52 (Nat.le_of_ble_eq_true rfl) dX0_late_253 ?_
                            obtain ⟨rfl, rfl⟩ := inj2 eJ49
                            exact A_sub [] rfl hJJ49
                          · replace eJ49 := it_f c eJ49
                            refine A_aload_n Γ dX0_late_237 7 rfl ?_
                            refine A_lload Γ dX0_late_238 1 rfl ?_
                            refine A_l2i Γ dX0_late_240 ?_
                            refine A_iconst (v := 1) Γ dX0_late_241 (by decide) ?_
                            replace eJ49 := b2 eJ49
                            obtain ⟨v56, σ57, e55, eJ49⟩ := eJ49
                            refine kX0_X0say Γ Ξ hRm (by decide) (by decide) e55 (Nat.le_of_ble_eq_true rfl) dX0_late_242 ?_
                            refine A_goto (t := 256) Γ dX0_late_245 (by decide) ?_
                            obtain ⟨rfl, rfl⟩ := inj2 eJ49
                            exact A_sub [] rfl hJJ49
                        · replace h := it_t c h
                          refine A_aload_n Γ dX0_late_160 3 rfl ?_
                          refine A_iconst (v := 1) Γ dX0_late_161 (by decide) ?_
                          replace h := b2 h
                          obtain ⟨v59, σ60, e58, h⟩ := h
                          refine kX0_X0found Γ Ξ hRm (by decide) (by decide) e58 (Nat.le_of_ble_eq_true rfl) dX0_late_162 ?_
                          obtain ⟨rfl, rfl⟩ := inj2 h
                          exact hret _ _ dX0_late_165
                      · replace h := it_t c h
                        refine A_aload_n Γ dX0_late_125 2 rfl ?_
                        refine A_iconst (v := 1) Γ dX0_late_126 (by decide) ?_
                        replace h := b2 h
                        obtain ⟨v62, σ63, e61, h⟩ := h
                        refine kX0_X0found Γ Ξ hRm (by decide) (by decide) e61 (Nat.le_of_ble_eq_true rfl) dX0_late_127 ?_
                        obtain ⟨rfl, rfl⟩ := inj2 h
                        exact hret _ _ dX0_late_130
                  · replace h := it_t c h
                    refine A_bipush (v := (-4)) Γ dX0_late_72 (by decide) ?_
                    obtain ⟨rfl, rfl⟩ := inj2 h
                    exact hret _ _ dX0_late_74
              · replace h := it_t c h
                refine A_iconst (v := (-1)) Γ dX0_late_54 (by decide) ?_
                obtain ⟨rfl, rfl⟩ := inj2 h
                exact hret _ _ dX0_late_55
theorem mtX0_late (l : Launch) (X : Xw) {σ σ' : St} {a1 : Int32} {a2 : Int32} {a3 : Int32} {a4 : Int32} {a5 : Int32} {a6 : Int32} {r : Int32} (h : c_late σ a1 a2 a3 a4 a5 a6 = some (r, σ')) : MetZ 0 l X yX0_late cX0_late 16 (some .int) 5 120 [.ref (xo X), .int a1, .int a2, .int a3, .int a4, .int a5, .int a6] σ (some (.int r)) σ' := MetZ.ofAt (by decide) (Nat.le_of_ble_eq_true rfl) (fun G _ Γ Ξ hR hret => wkX0_late Γ Ξ hR h hret)

set_option maxHeartbeats 4000000 in
set_option maxRecDepth 100000 in
theorem wkX0_lastSeen {G : Gx} {X : Xw} {σ : St} {a1 : Int32} (Γ : Ok G RX0 cX0_lastSeen 2) (Ξ : OkX 0 G X) (hRm : Rm G 1 25) {r : Int32} (h : c_lastSeen σ a1 = some r) (hret : ∀ (pc : Nat) (lv : List (Nat × Value)), retIs cX0_lastSeen (some .int) (some (.int r)) pc → At G 2 σ lv [.int r] pc) : At G 2 σ [(0, .ref (xo X)), (1, .int a1)] [] 0 := by
  rw [c_lastSeen] at h
  refine A_aload_n Γ dX0_lastSeen_0 0 rfl ?_
  refine A_iload_n Γ dX0_lastSeen_1 1 rfl ?_
  refine A_aload_n Γ dX0_lastSeen_2 0 rfl ?_
  refine A_iload_n Γ dX0_lastSeen_3 1 rfl ?_
  refine A_aload_n Γ dX0_lastSeen_4 0 rfl ?_
  refine g0_22 Γ Ξ dX0_lastSeen_5 ?_
  refine A_iconst (v := 2) Γ dX0_lastSeen_8 (by decide) ?_
  refine A_iconst (v := 2) Γ dX0_lastSeen_9 (by decide) ?_
  replace h := b1 h
  obtain ⟨v2, e1, h⟩ := h
  refine kX0_X0entryAhead Γ Ξ hRm (by decide) (by decide) e1 (Nat.le_of_ble_eq_true rfl) dX0_lastSeen_10 ?_
  refine A_iconst (v := 0) Γ dX0_lastSeen_13 (by decide) ?_
  refine A_iconst (v := 1) Γ dX0_lastSeen_14 (by decide) ?_
  replace h := b1 h
  obtain ⟨v4, e3, h⟩ := h
  refine kX0_X0entryAhead Γ Ξ hRm (by decide) (by decide) e3 (Nat.le_of_ble_eq_true rfl) dX0_lastSeen_15 ?_
  obtain rfl := inj1 h
  exact hret _ _ dX0_lastSeen_18
theorem mtX0_lastSeen (l : Launch) (X : Xw) {σ : St} {a1 : Int32} {r : Int32} (h : c_lastSeen σ a1 = some r) : MetZ 0 l X yX0_lastSeen cX0_lastSeen 2 (some .int) 1 25 [.ref (xo X), .int a1] σ (some (.int r)) σ := MetZ.ofAt (by decide) (Nat.le_of_ble_eq_true rfl) (fun G _ Γ Ξ hR hret => wkX0_lastSeen Γ Ξ hR h hret)
theorem kX0_X0lastSeen {G : Gx} {X : Xw} {cc : ByteArray} {nL pc F LO : Nat} {σ : St} {lv : List (Nat × Value)} {st : List Value} (Γ : Ok G RX0 cc nL) (Ξ : OkX 0 G X) {a1 : Int32} {r : Int32} (hRm : Rm G F LO) (hf : 1 + 1 ≤ F) (hlo : 8 + (2 + 11) + 25 ≤ LO) (h : c_lastSeen σ a1 = some r) (hW : (st.map fun v => v.category).sum ≤ 8) (d : decode cc pc = .ok (.invokevirtual 410, 3)) (kk : At G nL σ lv (.int r :: st) (pc + 3)) : At G nL σ lv (.int a1 :: .ref (xo X) :: st) pc := A_callV Γ Ξ rfl rfl (mtX0_lastSeen (gl G) X h) (lw_V q990 q992 qs23 q63 q993) (n := 1) (by decide +kernel) (rm_ok hRm hf hlo) (rm_k hRm) rfl rfl hW d kk
set_option maxHeartbeats 4000000 in
set_option maxRecDepth 100000 in
theorem wkX0_canBeOf {G : Gx} {X : Xw} {σ σ' : St} {a1 : Int32} (Γ : Ok G RX0 cX0_canBeOf 5) (Ξ : OkX 0 G X) (hRm : Rm G 3 74) {r : Int32} (h : c_canBeOf σ a1 = some (r, σ')) (hret : ∀ (pc : Nat) (lv : List (Nat × Value)), retIs cX0_canBeOf (some .int) (some (.int r)) pc → At G 5 σ' lv [.int r] pc) : At G 5 σ [(0, .ref (xo X)), (1, .int a1)] [] 0 := by
  rw [c_canBeOf] at h
  refine A_aload_n Γ dX0_canBeOf_0 0 rfl ?_
  refine A_iload_n Γ dX0_canBeOf_1 1 rfl ?_
  replace h := b1 h
  obtain ⟨v2, e1, h⟩ := h
  refine kX0_X0lastSeen Γ Ξ hRm (by decide) (by decide) e1 (Nat.le_of_ble_eq_true rfl) dX0_canBeOf_2 ?_
  refine A_istore_n (lv' := [(2, .int v2), (0, .ref (xo X)), (1, .int a1)]) Γ dX0_canBeOf_5 (by decide) rfl ?_
  refine A_aload_n Γ dX0_canBeOf_6 1 rfl ?_
  refine A_aload_n Γ dX0_canBeOf_7 1 rfl ?_
  refine g0_27 Γ Ξ dX0_canBeOf_8 ?_
  refine A_iload_n Γ dX0_canBeOf_11 0 rfl ?_
  replace h := b1 h
  obtain ⟨v3, e4, h⟩ := h
  refine r0_27 Γ Ξ e4 dX0_canBeOf_12 ?_
  refine A_aload_n Γ dX0_canBeOf_13 1 rfl ?_
  refine g0_25 Γ Ξ dX0_canBeOf_14 ?_
  refine A_iload_n Γ dX0_canBeOf_17 0 rfl ?_
  replace h := b1 h
  obtain ⟨v5, e6, h⟩ := h
  refine r0_25 Γ Ξ e6 dX0_canBeOf_18 ?_
  refine A_iconst (v := 0) Γ dX0_canBeOf_19 (by decide) ?_
  replace h := b1 h
  obtain ⟨σ8, e7, h⟩ := h
  refine kX0_X0lead Γ Ξ hRm (by decide) (by decide) e7 (Nat.le_of_ble_eq_true rfl) dX0_canBeOf_20 ?_
  refine A_iconst (v := 0) Γ dX0_canBeOf_23 (by decide) ?_
  refine A_istore_n (lv' := [(3, .int 0), (2, .int v2), (0, .ref (xo X)), (1, .int a1)]) Γ dX0_canBeOf_24 (by decide) rfl ?_
  refine A_iconst (v := 0) Γ dX0_canBeOf_25 (by decide) ?_
  refine A_istore (lv' := [(4, .int 0), (3, .int 0), (2, .int v2), (0, .ref (xo X)), (1, .int a1)]) Γ dX0_canBeOf_26 (by decide) rfl ?_
  replace h := b1 h
  obtain ⟨x12, eLL9, h⟩ := h
  have hXL9 : At G 5 σ8 [(3, .int x12)] [] 78 := by
    refine A_iload_n Γ dX0_canBeOf_78 0 rfl ?_
    obtain ⟨rfl, rfl⟩ := inj2 h
    exact hret _ _ dX0_canBeOf_79
  replace eLL9 := lq2_ex eLL9
  obtain ⟨nL9, eLL9⟩ := eLL9
  have hLL9 : ∀ (nL9 : Nat) (x10 : Int32) (x11 : Int32), lpf2 (c_canBeOf_L9 σ8) nL9 x10 x11 = some x12 → At G 5 σ8 [(0, .ref (xo X)), (3, .int x10), (4, .int x11)] [] 28 := by
    intro nL9
    induction nL9 with
    | zero => intro x10 x11 eL9; exact (lpf2_0 eL9).elim
    | succ nL9 ihL9 =>
      intro x10 x11 eL9
      replace eL9 := lpf2_s eL9
      obtain ⟨qL9, eL9, hqL9⟩ := eL9
      rw [c_canBeOf_L9] at eL9
      refine A_iload Γ dX0_canBeOf_28 2 rfl ?_
      refine A_bipush (v := 8) Γ dX0_canBeOf_30 (by decide) ?_
      refine A_icmp_ge (t := 78) Γ dX0_canBeOf_32 (by decide) (fun c => ?_) (fun c => ?_)
      · replace eL9 := it_t c eL9
        obtain rfl := pr1 (lpx2 eL9 hqL9)
        exact A_sub [1] rfl hXL9
      · replace eL9 := it_f c eL9
        refine A_iload_n Γ dX0_canBeOf_35 1 rfl ?_
        refine A_aload_n Γ dX0_canBeOf_36 0 rfl ?_
        refine g0_16 Γ Ξ dX0_canBeOf_37 ?_
        refine A_iload Γ dX0_canBeOf_40 2 rfl ?_
        replace eL9 := b1 eL9
        obtain ⟨v13, e14, eL9⟩ := eL9
        refine r0_16 Γ Ξ e14 dX0_canBeOf_42 ?_
        refine A_bipush (v := (-9)) Γ dX0_canBeOf_43 (by decide) ?_
        replace eL9 := b1 eL9
        obtain ⟨x16, eJ15, eL9⟩ := eL9
        have hJJ15 : At G 5 σ8 [(0, .ref (xo X)), (4, .int x11)] [.int x16, .int x10] 70 := by
          refine A_ior Γ dX0_canBeOf_70 ?_
          refine A_istore_n (lv' := [(3, .int (x10 ||| x16)), (0, .ref (xo X)), (4, .int x11)]) Γ dX0_canBeOf_71 (by decide) rfl ?_
          refine A_iinc (v := x11 + 1) (lv' := [(4, .int (x11 + 1)), (3, .int (x10 ||| x16)), (0, .ref (xo X))]) Γ dX0_canBeOf_72 2 rfl rfl (by decide) rfl ?_
          refine A_goto (t := 28) Γ dX0_canBeOf_75 (by decide) ?_
          exact A_sub [2, 1, 0] rfl (ihL9 _ _ (lpc2 eL9 hqL9))
        refine A_icmp_eq (t := 69) Γ dX0_canBeOf_45 (by decide) (fun c => ?_) (fun c => ?_)
        · replace eJ15 := it_t c eJ15
          refine A_iconst (v := 0) Γ dX0_canBeOf_69 (by decide) ?_
          obtain rfl := inj1 eJ15
          exact A_sub [0, 2] rfl hJJ15
        · replace eJ15 := it_f c eJ15
          refine A_aload_n Γ dX0_canBeOf_48 0 rfl ?_
          refine g0_16 Γ Ξ dX0_canBeOf_49 ?_
          refine A_iload Γ dX0_canBeOf_52 2 rfl ?_
          replace eJ15 := b1 eJ15
          obtain ⟨v17, e18, eJ15⟩ := eJ15
          refine r0_16 Γ Ξ e18 dX0_canBeOf_54 ?_
          refine A_aload_n Γ dX0_canBeOf_55 0 rfl ?_
          refine g0_11 Γ Ξ dX0_canBeOf_56 ?_
          refine A_icmp_gt (t := 69) Γ dX0_canBeOf_59 (by decide) (fun c => ?_) (fun c => ?_)
          · replace eJ15 := it_t c eJ15
            refine A_iconst (v := 0) Γ dX0_canBeOf_69 (by decide) ?_
            obtain rfl := inj1 eJ15
            exact A_sub [0, 2] rfl hJJ15
          · replace eJ15 := it_f c eJ15
            refine A_iconst (v := 1) Γ dX0_canBeOf_62 (by decide) ?_
            refine A_iload Γ dX0_canBeOf_63 2 rfl ?_
            refine A_ishl Γ dX0_canBeOf_65 ?_
            refine A_goto (t := 70) Γ dX0_canBeOf_66 (by decide) ?_
            obtain rfl := inj1 eJ15
            exact A_sub [0, 2] rfl hJJ15
  exact A_sub [3, 1, 0] rfl (hLL9 _ _ _ eLL9)
theorem mtX0_canBeOf (l : Launch) (X : Xw) {σ σ' : St} {a1 : Int32} {r : Int32} (h : c_canBeOf σ a1 = some (r, σ')) : MetZ 0 l X yX0_canBeOf cX0_canBeOf 5 (some .int) 3 74 [.ref (xo X), .int a1] σ (some (.int r)) σ' := MetZ.ofAt (by decide) (Nat.le_of_ble_eq_true rfl) (fun G _ Γ Ξ hR hret => wkX0_canBeOf Γ Ξ hR h hret)
theorem kX0_X0canBeOf {G : Gx} {X : Xw} {cc : ByteArray} {nL pc F LO : Nat} {σ σ' : St} {lv : List (Nat × Value)} {st : List Value} (Γ : Ok G RX0 cc nL) (Ξ : OkX 0 G X) {a1 : Int32} {r : Int32} (hRm : Rm G F LO) (hf : 3 + 1 ≤ F) (hlo : 8 + (5 + 11) + 74 ≤ LO) (h : c_canBeOf σ a1 = some (r, σ')) (hW : (st.map fun v => v.category).sum ≤ 8) (d : decode cc pc = .ok (.invokevirtual 413, 3)) (kk : At G nL σ' lv (.int r :: st) (pc + 3)) : At G nL σ lv (.int a1 :: .ref (xo X) :: st) pc := A_callV Γ Ξ rfl rfl (mtX0_canBeOf (gl G) X h) (lw_V q986 q988 qs22 q63 q989) (n := 1) (by decide +kernel) (rm_ok hRm hf hlo) (rm_k hRm) rfl rfl hW d kk
set_option maxHeartbeats 4000000 in
set_option maxRecDepth 100000 in
theorem wkX0_canBe {G : Gx} {X : Xw} {σ σ' : St} {a1 : Int32} (Γ : Ok G RX0 cX0_canBe 2) (Ξ : OkX 0 G X) (hRm : Rm G 4 98) {r : Int32} (h : c_canBe σ a1 = some (r, σ')) (hret : ∀ (pc : Nat) (lv : List (Nat × Value)), retIs cX0_canBe (some .int) (some (.int r)) pc → At G 2 σ' lv [.int r] pc) : At G 2 σ [(0, .ref (xo X)), (1, .int a1)] [] 0 := by
  rw [c_canBe] at h
  refine A_aload_n Γ dX0_canBe_0 0 rfl ?_
  refine A_iload_n Γ dX0_canBe_1 1 rfl ?_
  replace h := b1 h
  obtain ⟨v2, e1, h⟩ := h
  refine kX0_X0isTrailer Γ Ξ hRm (by decide) (by decide) e1 (Nat.le_of_ble_eq_true rfl) dX0_canBe_2 ?_
  replace h := b2 h
  obtain ⟨σ4, x5, eJ3, h⟩ := h
  have hJJ3 : At G 2 σ4 [] [.int x5] 34 := by
    obtain ⟨rfl, rfl⟩ := inj2 h
    exact hret _ _ dX0_canBe_34
  refine A_if_ne (t := 12) Γ dX0_canBe_5 (by decide) (fun c => ?_) (fun c => ?_)
  · replace eJ3 := it_f c eJ3
    refine A_aload_n Γ dX0_canBe_12 0 rfl ?_
    refine g0_18 Γ Ξ dX0_canBe_13 ?_
    refine A_iload_n Γ dX0_canBe_16 1 rfl ?_
    replace eJ3 := b1 eJ3
    obtain ⟨k6, e7, eJ3⟩ := eJ3
    refine A_trsD Γ Ξ e7 dX0_canBe_17 ?_
    replace eJ3 := b1 eJ3
    obtain ⟨v8, e9, eJ3⟩ := eJ3
    refine gTX0_4 Γ Ξ (kTr_tD e7) rfl e9 dX0_canBe_18 ?_
    refine A_if_ne (t := 29) Γ dX0_canBe_21 (by decide) (fun c => ?_) (fun c => ?_)
    · replace eJ3 := it_f c eJ3
      refine A_aload_n Γ dX0_canBe_29 0 rfl ?_
      refine A_iload_n Γ dX0_canBe_30 1 rfl ?_
      replace eJ3 := b2 eJ3
      obtain ⟨v11, σ12, e10, eJ3⟩ := eJ3
      refine kX0_X0canBeOf Γ Ξ hRm (by decide) (by decide) e10 (Nat.le_of_ble_eq_true rfl) dX0_canBe_31 ?_
      obtain ⟨rfl, rfl⟩ := inj2 eJ3
      exact A_sub [] rfl hJJ3
    · replace eJ3 := it_t c eJ3
      refine A_bipush (v := (-4)) Γ dX0_canBe_24 (by decide) ?_
      refine A_goto (t := 34) Γ dX0_canBe_26 (by decide) ?_
      obtain ⟨rfl, rfl⟩ := inj2 eJ3
      exact A_sub [] rfl hJJ3
  · replace eJ3 := it_t c eJ3
    refine A_iconst (v := (-1)) Γ dX0_canBe_8 (by decide) ?_
    refine A_goto (t := 34) Γ dX0_canBe_9 (by decide) ?_
    obtain ⟨rfl, rfl⟩ := inj2 eJ3
    exact A_sub [] rfl hJJ3
theorem mtX0_canBe (l : Launch) (X : Xw) {σ σ' : St} {a1 : Int32} {r : Int32} (h : c_canBe σ a1 = some (r, σ')) : MetZ 0 l X yX0_canBe cX0_canBe 2 (some .int) 4 98 [.ref (xo X), .int a1] σ (some (.int r)) σ' := MetZ.ofAt (by decide) (Nat.le_of_ble_eq_true rfl) (fun G _ Γ Ξ hR hret => wkX0_canBe Γ Ξ hR h hret)

set_option maxHeartbeats 4000000 in
set_option maxRecDepth 100000 in
theorem wkX0_tryLooks : ∀ (dd : Nat) {G : Gx} {X : Xw} {σ σ' : St} {a1 : Int32} {a2 : Int32} {a3 : Int32} {a4 : Int32} {a5 : Nat} {a6 : Int32} (Γ : Ok G RX0 cX0_tryLooks 9) (Ξ : OkX 0 G X) (hRm : Rm G (4 + dd) (97 + dd * 28)) (ka5 : kInt a5) (h : c_tryLooks dd σ a1 a2 a3 a4 a5 a6 = some σ') (hret : ∀ (pc : Nat) (lv : List (Nat × Value)), retIs cX0_tryLooks none (none) pc → At G 9 σ' lv [] pc), At G 9 σ [(0, .ref (xo X)), (1, .int a1), (2, .int a2), (3, .int a3), (4, .int a4), (5, .ref (xad X a5)), (6, .int a6)] [] 0 := by
  intro dd
  induction dd with
  | zero => intro G X σ σ'  a1 a2 a3 a4 a5 a6 Γ Ξ hRm ka5 h hret; cases h
  | succ dd ih =>
    intro G X σ σ'  a1 a2 a3 a4 a5 a6 Γ Ξ hRm ka5 h hret
    rw [c_tryLooks] at h
    refine A_iload_n Γ dX0_tryLooks_0 1 rfl ?_
    refine A_if_ne (t := 47) Γ dX0_tryLooks_1 (by decide) (fun c => ?_) (fun c => ?_)
    · replace h := it_f c h
      refine A_iconst (v := 0) Γ dX0_tryLooks_47 (by decide) ?_
      refine A_istore (lv' := [(7, .int 0), (0, .ref (xo X)), (1, .int a1), (2, .int a2), (3, .int a3), (4, .int a4), (5, .ref (xad X a5)), (6, .int a6)]) Γ dX0_tryLooks_48 (by decide) rfl ?_
      replace h := b1 h
      obtain ⟨σ4, eLL1, h⟩ := h
      have hXL1 : At G 9 σ4 [] [] 129 := by
        obtain rfl := inj1 h
        exact hret _ _ dX0_tryLooks_129
      replace eLL1 := lq2_ex eLL1
      obtain ⟨nL1, eLL1⟩ := eLL1
      have hLL1 : ∀ (nL1 : Nat) (σ2 : St) (x3 : Int32), lpf2 (c_tryLooks_L1 (c_tryLooks dd) a1 a2 a3 a4 a5 a6) nL1 σ2 x3 = some σ4 → At G 9 σ2 [(0, .ref (xo X)), (1, .int a1), (2, .int a2), (3, .int a3), (4, .int a4), (5, .ref (xad X a5)), (6, .int a6), (7, .int x3)] [] 50 := by
        intro nL1
        induction nL1 with
        | zero => intro σ2 x3 eL1; exact (lpf2_0 eL1).elim
        | succ nL1 ihL1 =>
          intro σ2 x3 eL1
          replace eL1 := lpf2_s eL1
          obtain ⟨qL1, eL1, hqL1⟩ := eL1
          rw [c_tryLooks_L1] at eL1
          refine A_iload Γ dX0_tryLooks_50 7 rfl ?_
          refine A_bipush (v := 8) Γ dX0_tryLooks_52 (by decide) ?_
          refine A_icmp_ge (t := 129) Γ dX0_tryLooks_54 (by decide) (fun c => ?_) (fun c => ?_)
          · replace eL1 := it_t c eL1
            obtain rfl := pr1 (lpx2 eL1 hqL1)
            exact A_sub [] rfl hXL1
          · replace eL1 := it_f c eL1
            refine A_iload_n Γ dX0_tryLooks_57 1 rfl ?_
            refine A_iload Γ dX0_tryLooks_58 7 rfl ?_
            refine A_ishr Γ dX0_tryLooks_60 ?_
            refine A_iconst (v := 1) Γ dX0_tryLooks_61 (by decide) ?_
            refine A_iand Γ dX0_tryLooks_62 ?_
            refine A_iconst (v := 1) Γ dX0_tryLooks_63 (by decide) ?_
            replace eL1 := b1 eL1
            obtain ⟨σ6, eJ5, eL1⟩ := eL1
            have hJJ5 : At G 9 σ6 [(0, .ref (xo X)), (1, .int a1), (2, .int a2), (3, .int a3), (4, .int a4), (5, .ref (xad X a5)), (6, .int a6), (7, .int x3)] [] 123 := by
              refine A_iinc (v := x3 + 1) (lv' := [(7, .int (x3 + 1)), (0, .ref (xo X)), (1, .int a1), (2, .int a2), (3, .int a3), (4, .int a4), (5, .ref (xad X a5)), (6, .int a6)]) Γ dX0_tryLooks_123 7 rfl rfl (by decide) rfl ?_
              refine A_goto (t := 50) Γ dX0_tryLooks_126 (by decide) ?_
              exact A_sub [1, 2, 3, 4, 5, 6, 7, 0] rfl (ihL1 _ _ (lpc2 eL1 hqL1))
            refine A_icmp_ne (t := 123) Γ dX0_tryLooks_64 (by decide) (fun c => ?_) (fun c => ?_)
            · replace eJ5 := it_f c eJ5
              obtain rfl := inj1 eJ5
              exact A_sub [0, 1, 2, 3, 4, 5, 6, 7] rfl hJJ5
            · replace eJ5 := it_t c eJ5
              refine A_aload_n Γ dX0_tryLooks_67 0 rfl ?_
              refine A_iload_n Γ dX0_tryLooks_68 3 rfl ?_
              refine A_iload Γ dX0_tryLooks_69 4 rfl ?_
              refine A_iload Γ dX0_tryLooks_71 7 rfl ?_
              replace eJ5 := b2 eJ5
              obtain ⟨v8, σ9, e7, eJ5⟩ := eJ5
              refine kX0_X0comesTo Γ Ξ hRm (by omega) (by omega) e7 (Nat.le_of_ble_eq_true rfl) dX0_tryLooks_73 ?_
              refine A_istore (lv' := [(8, .int v8), (0, .ref (xo X)), (1, .int a1), (2, .int a2), (3, .int a3), (4, .int a4), (5, .ref (xad X a5)), (6, .int a6), (7, .int x3)]) Γ dX0_tryLooks_76 (by decide) rfl ?_
              refine A_aload_n Γ dX0_tryLooks_78 1 rfl ?_
              refine g0_49 Γ Ξ dX0_tryLooks_79 ?_
              refine A_iload_n Γ dX0_tryLooks_82 3 rfl ?_
              refine A_iload Γ dX0_tryLooks_83 8 rfl ?_
              replace eJ5 := b1 eJ5
              obtain ⟨σ10, e11, eJ5⟩ := eJ5
              refine w0_49 Γ Ξ e11 dX0_tryLooks_85 ?_
              refine A_aload_n Γ dX0_tryLooks_86 1 rfl ?_
              refine A_iload_n Γ dX0_tryLooks_87 2 rfl ?_
              refine A_iconst (v := 1) Γ dX0_tryLooks_88 (by decide) ?_
              refine A_iload Γ dX0_tryLooks_89 8 rfl ?_
              refine A_ishl Γ dX0_tryLooks_91 ?_
              refine A_iconst (v := (-1)) Γ dX0_tryLooks_92 (by decide) ?_
              refine A_ixor Γ dX0_tryLooks_93 ?_
              refine A_iand Γ dX0_tryLooks_94 ?_
              refine A_iload_n Γ dX0_tryLooks_95 3 rfl ?_
              refine A_iconst (v := 1) Γ dX0_tryLooks_96 (by decide) ?_
              refine A_iadd Γ dX0_tryLooks_97 ?_
              refine A_iload Γ dX0_tryLooks_98 8 rfl ?_
              refine A_iload Γ dX0_tryLooks_100 0 rfl ?_
              refine A_aload Γ dX0_tryLooks_102 6 rfl ?_
              refine A_iload Γ dX0_tryLooks_104 7 rfl ?_
              refine A_aload Γ dX0_tryLooks_106 6 rfl ?_
              refine A_iload Γ dX0_tryLooks_108 8 rfl ?_
              replace eJ5 := b1 eJ5
              obtain ⟨v12, e13, eJ5⟩ := eJ5
              refine A_aldD Γ Ξ ka5 rfl e13 dX0_tryLooks_110 ?_
              refine A_iload Γ dX0_tryLooks_111 0 rfl ?_
              refine A_aload_n Γ dX0_tryLooks_113 1 rfl ?_
              refine g0_11 Γ Ξ dX0_tryLooks_114 ?_
              refine A_isub Γ dX0_tryLooks_117 ?_
              refine A_imul Γ dX0_tryLooks_118 ?_
              refine A_iadd Γ dX0_tryLooks_119 ?_
              replace eJ5 := b1 eJ5
              obtain ⟨σ14, e15, eJ5⟩ := eJ5
              refine A_callV (As := [.int (a1 &&& ((1 <<< (x3 &&& 31)) ^^^ (-1))), .int (a2 + 1), .int x3, .int v8, .ref (xad X a5), .int (a6 + (v12 * (v8 - (cI σ10 11))))]) (st := []) Γ Ξ rfl rfl (MetZ.ofAt (y := yX0_tryLooks) (cc := cX0_tryLooks) (nL := 9) (ret := none) (rv := none) (by decide) (Nat.le_of_ble_eq_true rfl) (fun G _ Γ Ξ hR hret => ih Γ Ξ hR ka5 e15 hret)) (lw_V q998 q1000 qs24 q63 q1001) (n := 6) (by decide +kernel) (rm_ok hRm (by omega) (by omega)) (rm_k hRm) rfl rfl (Nat.le_of_ble_eq_true rfl) dX0_tryLooks_120 ?_
              obtain rfl := inj1 eJ5
              exact A_sub [1, 2, 3, 4, 5, 6, 7, 8] rfl hJJ5
      exact A_sub [1, 2, 3, 4, 5, 6, 7, 0] rfl (hLL1 _ _ _ eLL1)
    · replace h := it_t c h
      refine A_aload_n Γ dX0_tryLooks_4 0 rfl ?_
      refine g0_50 Γ Ξ dX0_tryLooks_5 ?_
      replace h := b1 h
      obtain ⟨σ17, eJ16, h⟩ := h
      have hJJ16 : At G 9 σ17 [] [] 46 := by
        obtain rfl := inj1 h
        exact hret _ _ dX0_tryLooks_46
      refine A_if_eq (t := 20) Γ dX0_tryLooks_8 (by decide) (fun c => ?_) (fun c => ?_)
      · replace eJ16 := it_t c eJ16
        refine A_aload_n Γ dX0_tryLooks_20 0 rfl ?_
        refine A_iconst (v := 1) Γ dX0_tryLooks_21 (by decide) ?_
        refine p0_50 Γ Ξ (by decide) dX0_tryLooks_22 ?_
        refine A_aload_n Γ dX0_tryLooks_25 0 rfl ?_
        refine A_iload Γ dX0_tryLooks_26 6 rfl ?_
        refine p0_51 Γ Ξ dX0_tryLooks_28 ?_
        refine A_aload_n Γ dX0_tryLooks_31 0 rfl ?_
        refine g0_49 Γ Ξ dX0_tryLooks_32 ?_
        refine A_iconst (v := 0) Γ dX0_tryLooks_35 (by decide) ?_
        refine A_aload_n Γ dX0_tryLooks_36 0 rfl ?_
        refine g0_48 Γ Ξ dX0_tryLooks_37 ?_
        refine A_iconst (v := 0) Γ dX0_tryLooks_40 (by decide) ?_
        refine A_bipush (v := 8) Γ dX0_tryLooks_41 (by decide) ?_
        replace eJ16 := b1 eJ16
        obtain ⟨σ18, e19, eJ16⟩ := eJ16
        refine A_copy Γ Ξ (by decide) rfl rfl (by decide) rfl rfl e19 (rm_cp hRm (by omega) (by decide) (by omega)) dX0_tryLooks_43 ?_
        obtain rfl := inj1 eJ16
        exact A_sub [] rfl hJJ16
      · replace eJ16 := it_f c eJ16
        refine A_iload Γ dX0_tryLooks_11 6 rfl ?_
        refine A_aload_n Γ dX0_tryLooks_13 0 rfl ?_
        refine g0_51 Γ Ξ dX0_tryLooks_14 ?_
        refine A_icmp_ge (t := 46) Γ dX0_tryLooks_17 (by decide) (fun c => ?_) (fun c => ?_)
        · replace eJ16 := it_t c eJ16
          obtain rfl := inj1 eJ16
          exact A_sub [] rfl hJJ16
        · replace eJ16 := it_f c eJ16
          refine A_aload_n Γ dX0_tryLooks_20 0 rfl ?_
          refine A_iconst (v := 1) Γ dX0_tryLooks_21 (by decide) ?_
          refine p0_50 Γ Ξ (by decide) dX0_tryLooks_22 ?_
          refine A_aload_n Γ dX0_tryLooks_25 0 rfl ?_
          refine A_iload Γ dX0_tryLooks_26 6 rfl ?_
          refine p0_51 Γ Ξ dX0_tryLooks_28 ?_
          refine A_aload_n Γ dX0_tryLooks_31 0 rfl ?_
          refine g0_49 Γ Ξ dX0_tryLooks_32 ?_
          refine A_iconst (v := 0) Γ dX0_tryLooks_35 (by decide) ?_
          refine A_aload_n Γ dX0_tryLooks_36 0 rfl ?_
          refine g0_48 Γ Ξ dX0_tryLooks_37 ?_
          refine A_iconst (v := 0) Γ dX0_tryLooks_40 (by decide) ?_
          refine A_bipush (v := 8) Γ dX0_tryLooks_41 (by decide) ?_
          replace eJ16 := b1 eJ16
          obtain ⟨σ20, e21, eJ16⟩ := eJ16
          refine A_copy Γ Ξ (by decide) rfl rfl (by decide) rfl rfl e21 (rm_cp hRm (by omega) (by decide) (by omega)) dX0_tryLooks_43 ?_
          obtain rfl := inj1 eJ16
          exact A_sub [] rfl hJJ16
theorem mtX0_tryLooks (l : Launch) (X : Xw) (dd : Nat) {σ σ' : St} {a1 : Int32} {a2 : Int32} {a3 : Int32} {a4 : Int32} {a5 : Nat} {a6 : Int32} (ka5 : kInt a5) (h : c_tryLooks dd σ a1 a2 a3 a4 a5 a6 = some σ') : MetZ 0 l X yX0_tryLooks cX0_tryLooks 9 none (4 + dd) (97 + dd * 28) [.ref (xo X), .int a1, .int a2, .int a3, .int a4, .ref (xad X a5), .int a6] σ (none) σ' := MetZ.ofAt (by decide) (Nat.le_of_ble_eq_true rfl) (fun G _ Γ Ξ hR hret => wkX0_tryLooks dd Γ Ξ hR ka5 h hret)
theorem kX0_X0tryLooks {G : Gx} {X : Xw} {cc : ByteArray} {nL pc F LO : Nat} {σ σ' : St} {lv : List (Nat × Value)} {st : List Value} (Γ : Ok G RX0 cc nL) (Ξ : OkX 0 G X) {a1 : Int32} {a2 : Int32} {a3 : Int32} {a4 : Int32} {a5 : Nat} {a6 : Int32}  (hRm : Rm G F LO) (hf : 11 + 1 ≤ F) (hlo : 8 + (9 + 11) + 293 ≤ LO) (ka5 : kInt a5) (h : c_tryLooks 7 σ a1 a2 a3 a4 a5 a6 = some σ') (hW : (st.map fun v => v.category).sum ≤ 8) (d : decode cc pc = .ok (.invokevirtual 422, 3)) (kk : At G nL σ' lv (st) (pc + 3)) : At G nL σ lv (.int a6 :: .ref (xad X a5) :: .int a4 :: .int a3 :: .int a2 :: .int a1 :: .ref (xo X) :: st) pc := A_callV Γ Ξ rfl rfl (mtX0_tryLooks (gl G) X 7 ka5 h) (lw_V q998 q1000 qs24 q63 q1001) (n := 6) (by decide +kernel) (rm_ok hRm hf hlo) (rm_k hRm) rfl rfl hW d kk
set_option maxHeartbeats 4000000 in
set_option maxRecDepth 100000 in
theorem wkX0_look {G : Gx} {X : Xw} {σ σ' : St} {a1 : Int32} {a2 : Int32} {a3 : Int32} (Γ : Ok G RX0 cX0_look 7) (Ξ : OkX 0 G X) (hRm : Rm G 12 321) {r : Int32} (h : c_look σ a1 a2 a3 = some (r, σ')) (hret : ∀ (pc : Nat) (lv : List (Nat × Value)), retIs cX0_look (some .int) (some (.int r)) pc → At G 7 σ' lv [.int r] pc) : At G 7 σ [(0, .ref (xo X)), (1, .int a1), (2, .int a2), (3, .int a3)] [] 0 := by
  rw [c_look] at h
  refine A_aload_n Γ dX0_look_0 0 rfl ?_
  refine A_iload_n Γ dX0_look_1 1 rfl ?_
  replace h := b1 h
  obtain ⟨v2, e1, h⟩ := h
  refine kX0_X0isTrailer Γ Ξ hRm (by decide) (by decide) e1 (Nat.le_of_ble_eq_true rfl) dX0_look_2 ?_
  refine A_if_eq (t := 22) Γ dX0_look_5 (by decide) (fun c => ?_) (fun c => ?_)
  · replace h := it_t c h
    refine A_iconst (v := (-1)) Γ dX0_look_22 (by decide) ?_
    obtain ⟨rfl, rfl⟩ := inj2 h
    exact hret _ _ dX0_look_23
  · replace h := it_f c h
    refine A_iload_n Γ dX0_look_8 2 rfl ?_
    replace h := b1 h
    obtain ⟨v4, e3, h⟩ := h
    refine kX0_X0isYard Γ (kpX Ξ) hRm (by decide) (by decide) e3 (Nat.le_of_ble_eq_true rfl) dX0_look_9 ?_
    refine A_if_eq (t := 22) Γ dX0_look_12 (by decide) (fun c => ?_) (fun c => ?_)
    · replace h := it_t c h
      refine A_iconst (v := (-1)) Γ dX0_look_22 (by decide) ?_
      obtain ⟨rfl, rfl⟩ := inj2 h
      exact hret _ _ dX0_look_23
    · replace h := it_f c h
      refine A_iload_n Γ dX0_look_15 3 rfl ?_
      replace h := b1 h
      obtain ⟨v6, e5, h⟩ := h
      refine kX0_X0isRow Γ (kpX Ξ) hRm (by decide) (by decide) e5 (Nat.le_of_ble_eq_true rfl) dX0_look_16 ?_
      refine A_if_ne (t := 24) Γ dX0_look_19 (by decide) (fun c => ?_) (fun c => ?_)
      · replace h := it_f c h
        refine A_aload_n Γ dX0_look_24 0 rfl ?_
        refine g0_18 Γ Ξ dX0_look_25 ?_
        refine A_iload_n Γ dX0_look_28 1 rfl ?_
        replace h := b1 h
        obtain ⟨k7, e8, h⟩ := h
        refine A_trsD Γ Ξ e8 dX0_look_29 ?_
        replace h := b1 h
        obtain ⟨v9, e10, h⟩ := h
        refine gTX0_4 Γ Ξ (kTr_tD e8) rfl e10 dX0_look_30 ?_
        refine A_if_ne (t := 39) Γ dX0_look_33 (by decide) (fun c => ?_) (fun c => ?_)
        · replace h := it_f c h
          refine A_aload_n Γ dX0_look_39 0 rfl ?_
          refine g0_5 Γ Ξ dX0_look_40 ?_
          refine A_iload_n Γ dX0_look_43 3 rfl ?_
          replace h := b1 h
          obtain ⟨k11, e12, h⟩ := h
          refine A_rows Γ Ξ e12 dX0_look_44 ?_
          refine A_ifnonnull (t := 54) Γ dX0_look_45 (by decide) (fun cn13 => ?_) (fun cn13 => ?_)
          · replace h := it_t cn13 h
            refine A_aload_n Γ dX0_look_54 0 rfl ?_
            refine g0_5 Γ Ξ dX0_look_55 ?_
            refine A_iload_n Γ dX0_look_58 3 rfl ?_
            replace h := b1 h
            obtain ⟨k14, e15, h⟩ := h
            refine A_rowsD Γ Ξ e15 dX0_look_59 ?_
            replace h := b1 h
            obtain ⟨n16, e17, h⟩ := h
            refine A_alenD Γ Ξ (Or.inl (kInt_rowD e15)) rfl e17 dX0_look_60 ?_
            refine A_bipush (v := 8) Γ dX0_look_61 (by decide) ?_
            refine A_icmp_eq (t := 72) Γ dX0_look_63 (by decide) (fun c => ?_) (fun c => ?_)
            · replace h := it_t c h
              refine A_iconst (v := 0) Γ dX0_look_72 (by decide) ?_
              refine A_istore (lv' := [(4, .int 0), (0, .ref (xo X)), (1, .int a1), (2, .int a2), (3, .int a3)]) Γ dX0_look_73 (by decide) rfl ?_
              refine A_iconst (v := 1) Γ dX0_look_75 (by decide) ?_
              refine A_istore (lv' := [(5, .int 1), (4, .int 0), (0, .ref (xo X)), (1, .int a1), (2, .int a2), (3, .int a3)]) Γ dX0_look_76 (by decide) rfl ?_
              refine A_iconst (v := 0) Γ dX0_look_78 (by decide) ?_
              refine A_istore (lv' := [(6, .int 0), (5, .int 1), (4, .int 0), (0, .ref (xo X)), (1, .int a1), (2, .int a2), (3, .int a3)]) Γ dX0_look_79 (by decide) rfl ?_
              replace h := b2 h
              obtain ⟨x22, x23, eLL18, h⟩ := h
              have hXL18 : At G 7 σ [(0, .ref (xo X)), (1, .int a1), (2, .int a2), (3, .int a3), (4, .int x22), (5, .int x23)] [] 139 := by
                refine A_iload Γ dX0_look_139 5 rfl ?_
                refine A_if_ne (t := 150) Γ dX0_look_141 (by decide) (fun c => ?_) (fun c => ?_)
                · replace h := it_f c h
                  refine A_iload Γ dX0_look_150 4 rfl ?_
                  refine A_aload_n Γ dX0_look_152 0 rfl ?_
                  refine A_iload_n Γ dX0_look_153 1 rfl ?_
                  replace h := b2 h
                  obtain ⟨v37, σ38, e36, h⟩ := h
                  refine kX0_X0canBeOf Γ Ξ hRm (by decide) (by decide) e36 (Nat.le_of_ble_eq_true rfl) dX0_look_154 ?_
                  refine A_iand Γ dX0_look_157 ?_
                  refine A_istore (lv' := [(4, .int (x22 &&& v37)), (0, .ref (xo X)), (1, .int a1), (2, .int a2), (3, .int a3), (5, .int x23)]) Γ dX0_look_158 (by decide) rfl ?_
                  refine A_iload Γ dX0_look_160 0 rfl ?_
                  replace h := b1 h
                  obtain ⟨v40, e39, h⟩ := h
                  refine kX0_J11bitCount Γ (kpX Ξ) hRm (by decide) (by decide) e39 (Nat.le_of_ble_eq_true rfl) dX0_look_162 ?_
                  refine A_bipush (v := 6) Γ dX0_look_165 (by decide) ?_
                  refine A_icmp_le (t := 173) Γ dX0_look_167 (by decide) (fun c => ?_) (fun c => ?_)
                  · replace h := it_t c h
                    refine A_aload_n Γ dX0_look_173 1 rfl ?_
                    refine A_iload_n Γ dX0_look_174 3 rfl ?_
                    refine A_aload_n Γ dX0_look_175 1 rfl ?_
                    refine g0_11 Γ Ξ dX0_look_176 ?_
                    refine A_iconst (v := 0) Γ dX0_look_179 (by decide) ?_
                    replace h := b1 h
                    obtain ⟨σ42, e41, h⟩ := h
                    refine kX0_X0lead Γ Ξ hRm (by decide) (by decide) e41 (Nat.le_of_ble_eq_true rfl) dX0_look_180 ?_
                    refine A_iconst (v := 0) Γ dX0_look_183 (by decide) ?_
                    refine A_istore (lv' := [(6, .int 0), (4, .int (x22 &&& v37)), (0, .ref (xo X)), (1, .int a1), (2, .int a2), (3, .int a3), (5, .int x23)]) Γ dX0_look_184 (by decide) rfl ?_
                    replace h := bR1 h
                    obtain ⟨qqL43, eLL43, hsL43⟩ := h
                    have hXL43 : ∀ (u45 : Unit), qqL43 = .inl u45 → At G 7 σ42 [(0, .ref (xo X)), (2, .int a2), (3, .int a3), (4, .int (x22 &&& v37))] [] 228 := by
                      intro u45 e0
                      rcases hsL43 with ⟨u45z, e1, h⟩ | ⟨r1, e1, _⟩
                      · cases e0.symm.trans e1
                        refine A_aload_n Γ dX0_look_228 0 rfl ?_
                        refine A_iconst (v := 0) Γ dX0_look_229 (by decide) ?_
                        refine p0_50 Γ Ξ (by decide) dX0_look_230 ?_
                        refine A_aload_n Γ dX0_look_233 0 rfl ?_
                        refine A_iload Γ dX0_look_234 3 rfl ?_
                        refine A_iconst (v := 0) Γ dX0_look_236 (by decide) ?_
                        refine A_iload_n Γ dX0_look_237 1 rfl ?_
                        refine A_aload_n Γ dX0_look_238 0 rfl ?_
                        refine g0_11 Γ Ξ dX0_look_239 ?_
                        refine A_aload_n Γ dX0_look_242 0 rfl ?_
                        refine g0_5 Γ Ξ dX0_look_243 ?_
                        refine A_iload_n Γ dX0_look_246 2 rfl ?_
                        replace h := b1 h
                        obtain ⟨k51, e52, h⟩ := h
                        refine A_rowsD Γ Ξ e52 dX0_look_247 ?_
                        refine A_iconst (v := 0) Γ dX0_look_248 (by decide) ?_
                        replace h := b1 h
                        obtain ⟨σ54, e53, h⟩ := h
                        refine kX0_X0tryLooks Γ Ξ hRm (by decide) (by decide) (kInt_rowD e52) e53 (Nat.le_of_ble_eq_true rfl) dX0_look_249 ?_
                        refine A_aload_n Γ dX0_look_252 0 rfl ?_
                        refine A_iload Γ dX0_look_253 3 rfl ?_
                        replace h := b1 h
                        obtain ⟨v56, e55, h⟩ := h
                        refine kX0_J11bitCount Γ (kpX Ξ) hRm (by decide) (by decide) e55 (Nat.le_of_ble_eq_true rfl) dX0_look_255 ?_
                        refine p0_47 Γ Ξ dX0_look_258 ?_
                        refine A_aload_n Γ dX0_look_261 0 rfl ?_
                        refine A_aload_n Γ dX0_look_262 0 rfl ?_
                        refine g0_51 Γ Ξ dX0_look_263 ?_
                        refine A_aload_n Γ dX0_look_266 0 rfl ?_
                        refine g0_47 Γ Ξ dX0_look_267 ?_
                        replace h := b2 h
                        obtain ⟨v58, σ59, e57, h⟩ := h
                        refine kX0_X0say Γ Ξ hRm (by decide) (by decide) e57 (Nat.le_of_ble_eq_true rfl) dX0_look_270 ?_
                        obtain ⟨rfl, rfl⟩ := inj2 h
                        exact hret _ _ dX0_look_273
                      · cases e0.symm.trans e1
                    have hRtL43 : ∀ w : Int32 × St, qqL43 = .inr w → some w = some (r, σ') := by
                      intro w e0
                      rcases hsL43 with ⟨u45z, e1, _⟩ | ⟨r1, e1, h9⟩
                      · cases e0.symm.trans e1
                      · cases e0.symm.trans e1; exact h9
                    replace eLL43 := lq1_ex eLL43
                    obtain ⟨nL43, eLL43⟩ := eLL43
                    have hLL43 : ∀ (nL43 : Nat) (x44 : Int32), lpf1 (c_look_L43 x22 v37 σ42) nL43 x44 = some qqL43 → At G 7 σ42 [(0, .ref (xo X)), (2, .int a2), (3, .int a3), (4, .int (x22 &&& v37)), (6, .int x44)] [] 186 := by
                      intro nL43
                      induction nL43 with
                      | zero => intro x44 eL43; exact (lpf1_0 eL43).elim
                      | succ nL43 ihL43 =>
                        intro x44 eL43
                        replace eL43 := lpf1_s eL43
                        obtain ⟨qL43, eL43, hqL43⟩ := eL43
                        rw [c_look_L43] at eL43
                        refine A_iload Γ dX0_look_186 4 rfl ?_
                        refine A_bipush (v := 8) Γ dX0_look_188 (by decide) ?_
                        refine A_icmp_ge (t := 228) Γ dX0_look_190 (by decide) (fun c => ?_) (fun c => ?_)
                        · replace eL43 := it_t c eL43
                          exact A_sub [0, 1, 2, 3] rfl (hXL43 _ (lpx1 eL43 hqL43).symm)
                        · replace eL43 := it_f c eL43
                          refine A_iload Γ dX0_look_193 3 rfl ?_
                          refine A_iload Γ dX0_look_195 4 rfl ?_
                          refine A_ishr Γ dX0_look_197 ?_
                          refine A_iconst (v := 1) Γ dX0_look_198 (by decide) ?_
                          refine A_iand Γ dX0_look_199 ?_
                          refine A_iconst (v := 1) Γ dX0_look_200 (by decide) ?_
                          refine A_icmp_ne (t := 222) Γ dX0_look_201 (by decide) (fun c => ?_) (fun c => ?_)
                          · replace eL43 := it_f c eL43
                            refine A_iinc (v := x44 + 1) (lv' := [(6, .int (x44 + 1)), (0, .ref (xo X)), (2, .int a2), (3, .int a3), (4, .int (x22 &&& v37))]) Γ dX0_look_222 4 rfl rfl (by decide) rfl ?_
                            refine A_goto (t := 186) Γ dX0_look_225 (by decide) ?_
                            exact A_sub [1, 2, 3, 4, 0] rfl (ihL43 _ (lpc1 eL43 hqL43))
                          · replace eL43 := it_t c eL43
                            refine A_aload_n Γ dX0_look_204 0 rfl ?_
                            refine g0_16 Γ Ξ dX0_look_205 ?_
                            refine A_iload Γ dX0_look_208 4 rfl ?_
                            replace eL43 := b1 eL43
                            obtain ⟨v46, e47, eL43⟩ := eL43
                            refine r0_16 Γ Ξ e47 dX0_look_210 ?_
                            refine A_bipush (v := (-9)) Γ dX0_look_211 (by decide) ?_
                            refine A_icmp_ne (t := 222) Γ dX0_look_213 (by decide) (fun c => ?_) (fun c => ?_)
                            · replace eL43 := it_f c eL43
                              refine A_iinc (v := x44 + 1) (lv' := [(6, .int (x44 + 1)), (0, .ref (xo X)), (2, .int a2), (3, .int a3), (4, .int (x22 &&& v37))]) Γ dX0_look_222 4 rfl rfl (by decide) rfl ?_
                              refine A_goto (t := 186) Γ dX0_look_225 (by decide) ?_
                              exact A_sub [1, 2, 3, 4, 0] rfl (ihL43 _ (lpc1 eL43 hqL43))
                            · replace eL43 := it_t c eL43
                              refine A_aload_n Γ dX0_look_216 0 rfl ?_
                              refine A_iconst (v := 1) Γ dX0_look_217 (by decide) ?_
                              replace eL43 := b2 eL43
                              obtain ⟨v49, σ50, e48, eL43⟩ := eL43
                              refine kX0_X0found Γ Ξ hRm (by decide) (by decide) e48 (Nat.le_of_ble_eq_true rfl) dX0_look_218 ?_
                              have rL43 := hRtL43 _ (lpx1 eL43 hqL43).symm
                              obtain ⟨rfl, rfl⟩ := inj2 rL43
                              exact hret _ _ dX0_look_221
                    exact A_sub [2, 4, 5, 1, 0] rfl (hLL43 _ _ eLL43)
                  · replace h := it_f c h
                    refine A_bipush (v := (-2)) Γ dX0_look_170 (by decide) ?_
                    obtain ⟨rfl, rfl⟩ := inj2 h
                    exact hret _ _ dX0_look_172
                · replace h := it_t c h
                  refine A_aload_n Γ dX0_look_144 0 rfl ?_
                  refine A_iconst (v := 3) Γ dX0_look_145 (by decide) ?_
                  replace h := b2 h
                  obtain ⟨v61, σ62, e60, h⟩ := h
                  refine kX0_X0found Γ Ξ hRm (by decide) (by decide) e60 (Nat.le_of_ble_eq_true rfl) dX0_look_146 ?_
                  obtain ⟨rfl, rfl⟩ := inj2 h
                  exact hret _ _ dX0_look_149
              replace eLL18 := lq3_ex eLL18
              obtain ⟨nL18, eLL18⟩ := eLL18
              have hLL18 : ∀ (nL18 : Nat) (x19 : Int32) (x20 : Int32) (x21 : Int32), lpf3 (c_look_L18 σ a3) nL18 x19 x20 x21 = some (x22, x23) → At G 7 σ [(0, .ref (xo X)), (1, .int a1), (2, .int a2), (3, .int a3), (4, .int x19), (5, .int x20), (6, .int x21)] [] 81 := by
                intro nL18
                induction nL18 with
                | zero => intro x19 x20 x21 eL18; exact (lpf3_0 eL18).elim
                | succ nL18 ihL18 =>
                  intro x19 x20 x21 eL18
                  replace eL18 := lpf3_s eL18
                  obtain ⟨qL18, eL18, hqL18⟩ := eL18
                  rw [c_look_L18] at eL18
                  refine A_iload Γ dX0_look_81 6 rfl ?_
                  refine A_bipush (v := 8) Γ dX0_look_83 (by decide) ?_
                  refine A_icmp_ge (t := 139) Γ dX0_look_85 (by decide) (fun c => ?_) (fun c => ?_)
                  · replace eL18 := it_t c eL18
                    obtain ⟨rfl, rfl⟩ := pr2 (lpx3 eL18 hqL18)
                    exact A_sub [0, 1, 2, 3, 4, 5] rfl hXL18
                  · replace eL18 := it_f c eL18
                    refine A_iload Γ dX0_look_88 5 rfl ?_
                    refine A_aload_n Γ dX0_look_90 0 rfl ?_
                    refine g0_5 Γ Ξ dX0_look_91 ?_
                    refine A_iload_n Γ dX0_look_94 3 rfl ?_
                    replace eL18 := b1 eL18
                    obtain ⟨k24, e25, eL18⟩ := eL18
                    refine A_rowsD Γ Ξ e25 dX0_look_95 ?_
                    refine A_iload Γ dX0_look_96 6 rfl ?_
                    replace eL18 := b1 eL18
                    obtain ⟨v26, e27, eL18⟩ := eL18
                    refine A_aldD Γ Ξ (kInt_rowD e25) rfl e27 dX0_look_98 ?_
                    refine A_iconst (v := 0) Γ dX0_look_99 (by decide) ?_
                    refine A_bipush (v := 100) Γ dX0_look_100 (by decide) ?_
                    replace eL18 := b1 eL18
                    obtain ⟨v29, e28, eL18⟩ := eL18
                    refine kX0_X0in Γ (kpX Ξ) hRm (by decide) (by decide) e28 (Nat.le_of_ble_eq_true rfl) dX0_look_102 ?_
                    refine A_iand Γ dX0_look_105 ?_
                    refine A_istore (lv' := [(5, .int (x20 &&& v29)), (0, .ref (xo X)), (1, .int a1), (2, .int a2), (3, .int a3), (4, .int x19), (6, .int x21)]) Γ dX0_look_106 (by decide) rfl ?_
                    refine A_iload Γ dX0_look_108 5 rfl ?_
                    refine A_aload_n Γ dX0_look_110 1 rfl ?_
                    refine g0_5 Γ Ξ dX0_look_111 ?_
                    refine A_iload_n Γ dX0_look_114 4 rfl ?_
                    replace eL18 := b1 eL18
                    obtain ⟨k30, e31, eL18⟩ := eL18
                    refine A_rowsD Γ Ξ e31 dX0_look_115 ?_
                    refine A_iload Γ dX0_look_116 6 rfl ?_
                    replace eL18 := b1 eL18
                    obtain ⟨v32, e33, eL18⟩ := eL18
                    refine A_aldD Γ Ξ (kInt_rowD e31) rfl e33 dX0_look_118 ?_
                    replace eL18 := b1 eL18
                    obtain ⟨x35, eJ34, eL18⟩ := eL18
                    have hJJ34 : At G 7 σ [(0, .ref (xo X)), (1, .int a1), (2, .int a2), (3, .int a3), (5, .int (x20 &&& v29)), (6, .int x21)] [.int x35, .int x19] 130 := by
                      refine A_ior Γ dX0_look_130 ?_
                      refine A_istore (lv' := [(4, .int (x19 ||| x35)), (0, .ref (xo X)), (1, .int a1), (2, .int a2), (3, .int a3), (5, .int (x20 &&& v29)), (6, .int x21)]) Γ dX0_look_131 (by decide) rfl ?_
                      refine A_iinc (v := x21 + 1) (lv' := [(6, .int (x21 + 1)), (4, .int (x19 ||| x35)), (0, .ref (xo X)), (1, .int a1), (2, .int a2), (3, .int a3), (5, .int (x20 &&& v29))]) Γ dX0_look_133 6 rfl rfl (by decide) rfl ?_
                      refine A_goto (t := 81) Γ dX0_look_136 (by decide) ?_
                      exact A_sub [2, 3, 4, 5, 1, 6, 0] rfl (ihL18 _ _ _ (lpc3 eL18 hqL18))
                    refine A_if_le (t := 129) Γ dX0_look_119 (by decide) (fun c => ?_) (fun c => ?_)
                    · replace eJ34 := it_t c eJ34
                      refine A_iconst (v := 0) Γ dX0_look_129 (by decide) ?_
                      obtain rfl := inj1 eJ34
                      exact A_sub [1, 2, 3, 4, 0, 6] rfl hJJ34
                    · replace eJ34 := it_f c eJ34
                      refine A_iconst (v := 1) Γ dX0_look_122 (by decide) ?_
                      refine A_iload Γ dX0_look_123 6 rfl ?_
                      refine A_ishl Γ dX0_look_125 ?_
                      refine A_goto (t := 130) Γ dX0_look_126 (by decide) ?_
                      obtain rfl := inj1 eJ34
                      exact A_sub [1, 2, 3, 4, 0, 6] rfl hJJ34
              exact A_sub [3, 4, 5, 6, 2, 1, 0] rfl (hLL18 _ _ _ _ eLL18)
            · replace h := it_f c h
              refine A_aload_n Γ dX0_look_66 0 rfl ?_
              refine A_iconst (v := 5) Γ dX0_look_67 (by decide) ?_
              replace h := b2 h
              obtain ⟨v64, σ65, e63, h⟩ := h
              refine kX0_X0found Γ Ξ hRm (by decide) (by decide) e63 (Nat.le_of_ble_eq_true rfl) dX0_look_68 ?_
              obtain ⟨rfl, rfl⟩ := inj2 h
              exact hret _ _ dX0_look_71
          · replace h := it_f cn13 h
            refine A_aload_n Γ dX0_look_48 0 rfl ?_
            refine A_iconst (v := 1) Γ dX0_look_49 (by decide) ?_
            replace h := b2 h
            obtain ⟨v67, σ68, e66, h⟩ := h
            refine kX0_X0found Γ Ξ hRm (by decide) (by decide) e66 (Nat.le_of_ble_eq_true rfl) dX0_look_50 ?_
            obtain ⟨rfl, rfl⟩ := inj2 h
            exact hret _ _ dX0_look_53
        · replace h := it_t c h
          refine A_bipush (v := (-4)) Γ dX0_look_36 (by decide) ?_
          obtain ⟨rfl, rfl⟩ := inj2 h
          exact hret _ _ dX0_look_38
      · replace h := it_t c h
        refine A_iconst (v := (-1)) Γ dX0_look_22 (by decide) ?_
        obtain ⟨rfl, rfl⟩ := inj2 h
        exact hret _ _ dX0_look_23
theorem mtX0_look (l : Launch) (X : Xw) {σ σ' : St} {a1 : Int32} {a2 : Int32} {a3 : Int32} {r : Int32} (h : c_look σ a1 a2 a3 = some (r, σ')) : MetZ 0 l X yX0_look cX0_look 7 (some .int) 12 321 [.ref (xo X), .int a1, .int a2, .int a3] σ (some (.int r)) σ' := MetZ.ofAt (by decide) (Nat.le_of_ble_eq_true rfl) (fun G _ Γ Ξ hR hret => wkX0_look Γ Ξ hR h hret)

set_option maxHeartbeats 4000000 in
set_option maxRecDepth 100000 in
theorem wkX0_looked {G : Gx} {X : Xw} {σ : St} {a1 : Int32} (Γ : Ok G RX0 cX0_looked 2) (Ξ : OkX 0 G X) (hRm : Rm G 1 22) {r : Int32} (h : c_looked σ a1 = some r) (hret : ∀ (pc : Nat) (lv : List (Nat × Value)), retIs cX0_looked (some .int) (some (.int r)) pc → At G 2 σ lv [.int r] pc) : At G 2 σ [(0, .ref (xo X)), (1, .int a1)] [] 0 := by
  rw [c_looked] at h
  refine A_iload_n Γ dX0_looked_0 1 rfl ?_
  refine A_iconst (v := 0) Γ dX0_looked_1 (by decide) ?_
  refine A_aload_n Γ dX0_looked_2 0 rfl ?_
  refine g0_47 Γ Ξ dX0_looked_3 ?_
  refine A_iconst (v := 1) Γ dX0_looked_6 (by decide) ?_
  refine A_isub Γ dX0_looked_7 ?_
  replace h := b1 h
  obtain ⟨v2, e1, h⟩ := h
  refine kX0_X0in Γ (kpX Ξ) hRm (by decide) (by decide) e1 (Nat.le_of_ble_eq_true rfl) dX0_looked_8 ?_
  replace h := b1 h
  obtain ⟨x4, eJ3, h⟩ := h
  have hJJ3 : At G 2 σ [] [.int x4] 25 := by
    obtain rfl := inj1 h
    exact hret _ _ dX0_looked_25
  refine A_if_eq (t := 23) Γ dX0_looked_11 (by decide) (fun c => ?_) (fun c => ?_)
  · replace eJ3 := it_t c eJ3
    refine A_bipush (v := (-9)) Γ dX0_looked_23 (by decide) ?_
    obtain rfl := inj1 eJ3
    exact A_sub [] rfl hJJ3
  · replace eJ3 := it_f c eJ3
    refine A_aload_n Γ dX0_looked_14 0 rfl ?_
    refine g0_48 Γ Ξ dX0_looked_15 ?_
    refine A_iload_n Γ dX0_looked_18 1 rfl ?_
    replace eJ3 := b1 eJ3
    obtain ⟨v5, e6, eJ3⟩ := eJ3
    refine r0_48 Γ Ξ e6 dX0_looked_19 ?_
    refine A_goto (t := 25) Γ dX0_looked_20 (by decide) ?_
    obtain rfl := inj1 eJ3
    exact A_sub [] rfl hJJ3
theorem mtX0_looked (l : Launch) (X : Xw) {σ : St} {a1 : Int32} {r : Int32} (h : c_looked σ a1 = some r) : MetZ 0 l X yX0_looked cX0_looked 2 (some .int) 1 22 [.ref (xo X), .int a1] σ (some (.int r)) σ := MetZ.ofAt (by decide) (Nat.le_of_ble_eq_true rfl) (fun G _ Γ Ξ hR hret => wkX0_looked Γ Ξ hR h hret)

set_option maxHeartbeats 4000000 in
set_option maxRecDepth 100000 in
theorem wkX0_cheapestWay {G : Gx} {X : Xw} {σ σ' : St}  (Γ : Ok G RX0 cX0_cheapestWay 5) (Ξ : OkX 0 G X) (hRm : Rm G 0 0) {r : Int32} (h : c_cheapestWay σ = some (r, σ')) (hret : ∀ (pc : Nat) (lv : List (Nat × Value)), retIs cX0_cheapestWay (some .int) (some (.int r)) pc → At G 5 σ' lv [.int r] pc) : At G 5 σ [(0, .ref (xo X))] [] 0 := by
  rw [c_cheapestWay] at h
  refine A_iconst (v := 0) Γ dX0_cheapestWay_0 (by decide) ?_
  refine A_istore_n (lv' := [(1, .int 0), (0, .ref (xo X))]) Γ dX0_cheapestWay_1 (by decide) rfl ?_
  replace h := b1 h
  obtain ⟨σ4, eLL1, h⟩ := h
  have hXL1 : At G 5 σ4 [(0, .ref (xo X))] [] 67 := by
    refine A_iconst (v := 1) Γ dX0_cheapestWay_67 (by decide) ?_
    refine A_istore_n (lv' := [(1, .int 1), (0, .ref (xo X))]) Γ dX0_cheapestWay_68 (by decide) rfl ?_
    replace h := b1 h
    obtain ⟨σ20, eLL17, h⟩ := h
    have hXL17 : At G 5 σ20 [(0, .ref (xo X))] [] 257 := by
      refine A_bipush (v := (-9)) Γ dX0_cheapestWay_257 (by decide) ?_
      refine A_istore_n (lv' := [(2, .int (-9)), (0, .ref (xo X))]) Γ dX0_cheapestWay_259 (by decide) rfl ?_
      refine A_iconst (v := 0) Γ dX0_cheapestWay_260 (by decide) ?_
      refine A_istore_n (lv' := [(3, .int 0), (2, .int (-9)), (0, .ref (xo X))]) Γ dX0_cheapestWay_261 (by decide) rfl ?_
      replace h := b1 h
      obtain ⟨x72, eLL69, h⟩ := h
      have hXL69 : At G 5 σ20 [(2, .int x72)] [] 343 := by
        refine A_iload_n Γ dX0_cheapestWay_343 0 rfl ?_
        obtain ⟨rfl, rfl⟩ := inj2 h
        exact hret _ _ dX0_cheapestWay_344
      replace eLL69 := lq2_ex eLL69
      obtain ⟨nL69, eLL69⟩ := eLL69
      have hLL69 : ∀ (nL69 : Nat) (x70 : Int32) (x71 : Int32), lpf2 (c_cheapestWay_L69 σ20) nL69 x70 x71 = some x72 → At G 5 σ20 [(0, .ref (xo X)), (2, .int x70), (3, .int x71)] [] 262 := by
        intro nL69
        induction nL69 with
        | zero => intro x70 x71 eL69; exact (lpf2_0 eL69).elim
        | succ nL69 ihL69 =>
          intro x70 x71 eL69
          replace eL69 := lpf2_s eL69
          obtain ⟨qL69, eL69, hqL69⟩ := eL69
          rw [c_cheapestWay_L69] at eL69
          refine A_iload_n Γ dX0_cheapestWay_262 2 rfl ?_
          refine A_bipush (v := 8) Γ dX0_cheapestWay_263 (by decide) ?_
          refine A_icmp_ge (t := 343) Γ dX0_cheapestWay_265 (by decide) (fun c => ?_) (fun c => ?_)
          · replace eL69 := it_t c eL69
            obtain rfl := pr1 (lpx2 eL69 hqL69)
            exact A_sub [1] rfl hXL69
          · replace eL69 := it_f c eL69
            refine A_aload_n Γ dX0_cheapestWay_268 0 rfl ?_
            refine g0_53 Γ Ξ dX0_cheapestWay_269 ?_
            refine A_iload_n Γ dX0_cheapestWay_272 2 rfl ?_
            replace eL69 := b1 eL69
            obtain ⟨v73, e74, eL69⟩ := eL69
            refine r0_53 Γ Ξ e74 dX0_cheapestWay_273 ?_
            replace eL69 := b1 eL69
            obtain ⟨x76, eJ75, eL69⟩ := eL69
            have hJJ75 : At G 5 σ20 [(0, .ref (xo X)), (2, .int x70), (3, .int x71)] [.int x76] 297 := by
              refine A_istore (lv' := [(4, .int x76), (0, .ref (xo X)), (2, .int x70), (3, .int x71)]) Γ dX0_cheapestWay_297 (by decide) rfl ?_
              refine A_iload Γ dX0_cheapestWay_299 0 rfl ?_
              replace eL69 := b1 eL69
              obtain ⟨x80, eJ79, eL69⟩ := eL69
              have hJJ79 : At G 5 σ20 [(0, .ref (xo X)), (3, .int x71)] [.int x80] 336 := by
                refine A_istore_n (lv' := [(2, .int x80), (0, .ref (xo X)), (3, .int x71)]) Γ dX0_cheapestWay_336 (by decide) rfl ?_
                refine A_iinc (v := x71 + 1) (lv' := [(3, .int (x71 + 1)), (2, .int x80), (0, .ref (xo X))]) Γ dX0_cheapestWay_337 2 rfl rfl (by decide) rfl ?_
                refine A_goto (t := 262) Γ dX0_cheapestWay_340 (by decide) ?_
                exact A_sub [2, 1, 0] rfl (ihL69 _ _ (lpc2 eL69 hqL69))
              refine A_if_eq (t := 335) Γ dX0_cheapestWay_301 (by decide) (fun c => ?_) (fun c => ?_)
              · replace eJ79 := it_t c eJ79
                refine A_iload_n Γ dX0_cheapestWay_335 2 rfl ?_
                obtain rfl := inj1 eJ79
                exact A_sub [1, 3] rfl hJJ79
              · replace eJ79 := it_f c eJ79
                refine A_iload_n Γ dX0_cheapestWay_304 2 rfl ?_
                refine A_bipush (v := (-9)) Γ dX0_cheapestWay_305 (by decide) ?_
                refine A_icmp_eq (t := 331) Γ dX0_cheapestWay_307 (by decide) (fun c => ?_) (fun c => ?_)
                · replace eJ79 := it_t c eJ79
                  refine A_iload_n Γ dX0_cheapestWay_331 3 rfl ?_
                  refine A_goto (t := 336) Γ dX0_cheapestWay_332 (by decide) ?_
                  obtain rfl := inj1 eJ79
                  exact A_sub [1, 3] rfl hJJ79
                · replace eJ79 := it_f c eJ79
                  refine A_aload_n Γ dX0_cheapestWay_310 1 rfl ?_
                  refine g0_56 Γ Ξ dX0_cheapestWay_311 ?_
                  refine A_bipush (v := 8) Γ dX0_cheapestWay_314 (by decide) ?_
                  refine A_iload_n Γ dX0_cheapestWay_316 3 rfl ?_
                  refine A_iadd Γ dX0_cheapestWay_317 ?_
                  replace eJ79 := b1 eJ79
                  obtain ⟨v81, e82, eJ79⟩ := eJ79
                  refine r0_56 Γ Ξ e82 dX0_cheapestWay_318 ?_
                  refine A_aload_n Γ dX0_cheapestWay_319 1 rfl ?_
                  refine g0_56 Γ Ξ dX0_cheapestWay_320 ?_
                  refine A_bipush (v := 8) Γ dX0_cheapestWay_323 (by decide) ?_
                  refine A_iload_n Γ dX0_cheapestWay_325 2 rfl ?_
                  refine A_iadd Γ dX0_cheapestWay_326 ?_
                  replace eJ79 := b1 eJ79
                  obtain ⟨v83, e84, eJ79⟩ := eJ79
                  refine r0_56 Γ Ξ e84 dX0_cheapestWay_327 ?_
                  refine A_icmp_ge (t := 335) Γ dX0_cheapestWay_328 (by decide) (fun c => ?_) (fun c => ?_)
                  · replace eJ79 := it_t c eJ79
                    refine A_iload_n Γ dX0_cheapestWay_335 2 rfl ?_
                    obtain rfl := inj1 eJ79
                    exact A_sub [1, 3] rfl hJJ79
                  · replace eJ79 := it_f c eJ79
                    refine A_iload_n Γ dX0_cheapestWay_331 3 rfl ?_
                    refine A_goto (t := 336) Γ dX0_cheapestWay_332 (by decide) ?_
                    obtain rfl := inj1 eJ79
                    exact A_sub [1, 3] rfl hJJ79
            refine A_if_le (t := 296) Γ dX0_cheapestWay_274 (by decide) (fun c => ?_) (fun c => ?_)
            · replace eJ75 := it_t c eJ75
              refine A_iconst (v := 0) Γ dX0_cheapestWay_296 (by decide) ?_
              obtain rfl := inj1 eJ75
              exact A_sub [0, 1, 2] rfl hJJ75
            · replace eJ75 := it_f c eJ75
              refine A_aload_n Γ dX0_cheapestWay_277 0 rfl ?_
              refine g0_56 Γ Ξ dX0_cheapestWay_278 ?_
              refine A_bipush (v := 8) Γ dX0_cheapestWay_281 (by decide) ?_
              refine A_iload_n Γ dX0_cheapestWay_283 2 rfl ?_
              refine A_iadd Γ dX0_cheapestWay_284 ?_
              replace eJ75 := b1 eJ75
              obtain ⟨v77, e78, eJ75⟩ := eJ75
              refine r0_56 Γ Ξ e78 dX0_cheapestWay_285 ?_
              refine A_ldcw (v := 1000000000) Γ q1014 dX0_cheapestWay_286 ?_
              refine A_icmp_eq (t := 296) Γ dX0_cheapestWay_289 (by decide) (fun c => ?_) (fun c => ?_)
              · replace eJ75 := it_t c eJ75
                refine A_iconst (v := 0) Γ dX0_cheapestWay_296 (by decide) ?_
                obtain rfl := inj1 eJ75
                exact A_sub [0, 1, 2] rfl hJJ75
              · replace eJ75 := it_f c eJ75
                refine A_iconst (v := 1) Γ dX0_cheapestWay_292 (by decide) ?_
                refine A_goto (t := 297) Γ dX0_cheapestWay_293 (by decide) ?_
                obtain rfl := inj1 eJ75
                exact A_sub [0, 1, 2] rfl hJJ75
      exact A_sub [2, 1, 0] rfl (hLL69 _ _ _ eLL69)
    replace eLL17 := lq2_ex eLL17
    obtain ⟨nL17, eLL17⟩ := eLL17
    have hLL17 : ∀ (nL17 : Nat) (σ18 : St) (x19 : Int32), lpf2 (c_cheapestWay_L17) nL17 σ18 x19 = some σ20 → At G 5 σ18 [(0, .ref (xo X)), (1, .int x19)] [] 69 := by
      intro nL17
      induction nL17 with
      | zero => intro σ18 x19 eL17; exact (lpf2_0 eL17).elim
      | succ nL17 ihL17 =>
        intro σ18 x19 eL17
        replace eL17 := lpf2_s eL17
        obtain ⟨qL17, eL17, hqL17⟩ := eL17
        rw [c_cheapestWay_L17] at eL17
        refine A_iload_n Γ dX0_cheapestWay_69 1 rfl ?_
        refine A_if_eq (t := 257) Γ dX0_cheapestWay_70 (by decide) (fun c => ?_) (fun c => ?_)
        · replace eL17 := it_t c eL17
          obtain rfl := pr1 (lpx2 eL17 hqL17)
          exact A_sub [0] rfl hXL17
        · replace eL17 := it_f c eL17
          refine A_iconst (v := 0) Γ dX0_cheapestWay_73 (by decide) ?_
          refine A_istore_n (lv' := [(1, .int 0), (0, .ref (xo X))]) Γ dX0_cheapestWay_74 (by decide) rfl ?_
          refine A_iconst (v := 0) Γ dX0_cheapestWay_75 (by decide) ?_
          refine A_istore_n (lv' := [(2, .int 0), (1, .int 0), (0, .ref (xo X))]) Γ dX0_cheapestWay_76 (by decide) rfl ?_
          replace eL17 := b2 eL17
          obtain ⟨σ25, x26, eLL21, eL17⟩ := eL17
          have hXL21 : At G 5 σ25 [(0, .ref (xo X)), (1, .int x26)] [] 254 := by
            refine A_goto (t := 69) Γ dX0_cheapestWay_254 (by decide) ?_
            exact A_sub [0, 1] rfl (ihL17 _ _ (lpc2 eL17 hqL17))
          replace eLL21 := lq3_ex eLL21
          obtain ⟨nL21, eLL21⟩ := eLL21
          have hLL21 : ∀ (nL21 : Nat) (σ22 : St) (x23 : Int32) (x24 : Int32), lpf3 (c_cheapestWay_L21) nL21 σ22 x23 x24 = some (σ25, x26) → At G 5 σ22 [(0, .ref (xo X)), (1, .int x23), (2, .int x24)] [] 77 := by
            intro nL21
            induction nL21 with
            | zero => intro σ22 x23 x24 eL21; exact (lpf3_0 eL21).elim
            | succ nL21 ihL21 =>
              intro σ22 x23 x24 eL21
              replace eL21 := lpf3_s eL21
              obtain ⟨qL21, eL21, hqL21⟩ := eL21
              rw [c_cheapestWay_L21] at eL21
              refine A_iload_n Γ dX0_cheapestWay_77 2 rfl ?_
              refine A_bipush (v := 64) Γ dX0_cheapestWay_78 (by decide) ?_
              refine A_icmp_ge (t := 254) Γ dX0_cheapestWay_80 (by decide) (fun c => ?_) (fun c => ?_)
              · replace eL21 := it_t c eL21
                obtain ⟨rfl, rfl⟩ := pr2 (lpx3 eL21 hqL21)
                exact A_sub [0, 1] rfl hXL21
              · replace eL21 := it_f c eL21
                refine A_iload_n Γ dX0_cheapestWay_83 2 rfl ?_
                refine A_bipush (v := 8) Γ dX0_cheapestWay_84 (by decide) ?_
                refine A_idiv Γ dX0_cheapestWay_86 (by decide) ?_
                refine A_istore_n (lv' := [(3, .int (x24 / 8)), (0, .ref (xo X)), (1, .int x23), (2, .int x24)]) Γ dX0_cheapestWay_87 (by decide) rfl ?_
                refine A_bipush (v := 8) Γ dX0_cheapestWay_88 (by decide) ?_
                refine A_iload_n Γ dX0_cheapestWay_90 3 rfl ?_
                refine A_bipush (v := 8) Γ dX0_cheapestWay_91 (by decide) ?_
                refine A_irem Γ dX0_cheapestWay_93 (by decide) ?_
                refine A_iadd Γ dX0_cheapestWay_94 ?_
                refine A_istore (lv' := [(4, .int (8 + (x24 - x24 / 8 * 8))), (3, .int (x24 / 8)), (0, .ref (xo X)), (1, .int x23), (2, .int x24)]) Γ dX0_cheapestWay_95 (by decide) rfl ?_
                refine A_aload_n Γ dX0_cheapestWay_97 2 rfl ?_
                refine g0_54 Γ Ξ dX0_cheapestWay_98 ?_
                refine A_iload_n Γ dX0_cheapestWay_101 4 rfl ?_
                replace eL21 := b1 eL21
                obtain ⟨v27, e28, eL21⟩ := eL21
                refine r0_54 Γ Ξ e28 dX0_cheapestWay_102 ?_
                refine A_bipush (v := (-9)) Γ dX0_cheapestWay_103 (by decide) ?_
                replace eL21 := b2 eL21
                obtain ⟨σ30, x31, eJ29, eL21⟩ := eL21
                have hJJ29 : At G 5 σ30 [(0, .ref (xo X)), (1, .int x31), (2, .int x24), (3, .int (x24 / 8)), (4, .int (8 + (x24 - x24 / 8 * 8)))] [] 173 := by
                  refine A_aload_n Γ dX0_cheapestWay_173 0 rfl ?_
                  refine g0_55 Γ Ξ dX0_cheapestWay_174 ?_
                  refine A_iload_n Γ dX0_cheapestWay_177 2 rfl ?_
                  replace eL21 := b1 eL21
                  obtain ⟨v48, e49, eL21⟩ := eL21
                  refine r0_55 Γ Ξ e49 dX0_cheapestWay_178 ?_
                  replace eL21 := b2 eL21
                  obtain ⟨σ51, x52, eJ50, eL21⟩ := eL21
                  have hJJ50 : At G 5 σ51 [(0, .ref (xo X)), (1, .int x52), (2, .int x24)] [] 248 := by
                    refine A_iinc (v := x24 + 1) (lv' := [(2, .int (x24 + 1)), (0, .ref (xo X)), (1, .int x52)]) Γ dX0_cheapestWay_248 2 rfl rfl (by decide) rfl ?_
                    refine A_goto (t := 77) Γ dX0_cheapestWay_251 (by decide) ?_
                    exact A_sub [1, 2, 0] rfl (ihL21 _ _ _ (lpc3 eL21 hqL21))
                  refine A_if_le (t := 248) Γ dX0_cheapestWay_179 (by decide) (fun c => ?_) (fun c => ?_)
                  · replace eJ50 := it_t c eJ50
                    obtain ⟨rfl, rfl⟩ := inj2 eJ50
                    exact A_sub [0, 1, 2] rfl hJJ50
                  · replace eJ50 := it_f c eJ50
                    refine A_aload_n Γ dX0_cheapestWay_182 0 rfl ?_
                    refine g0_56 Γ Ξ dX0_cheapestWay_183 ?_
                    refine A_iload Γ dX0_cheapestWay_186 4 rfl ?_
                    replace eJ50 := b1 eJ50
                    obtain ⟨v53, e54, eJ50⟩ := eJ50
                    refine r0_56 Γ Ξ e54 dX0_cheapestWay_188 ?_
                    refine A_ldcw (v := 1000000000) Γ q1014 dX0_cheapestWay_189 ?_
                    refine A_icmp_eq (t := 248) Γ dX0_cheapestWay_192 (by decide) (fun c => ?_) (fun c => ?_)
                    · replace eJ50 := it_t c eJ50
                      obtain ⟨rfl, rfl⟩ := inj2 eJ50
                      exact A_sub [0, 1, 2] rfl hJJ50
                    · replace eJ50 := it_f c eJ50
                      refine A_aload_n Γ dX0_cheapestWay_195 0 rfl ?_
                      refine g0_56 Γ Ξ dX0_cheapestWay_196 ?_
                      refine A_iload Γ dX0_cheapestWay_199 4 rfl ?_
                      replace eJ50 := b1 eJ50
                      obtain ⟨v55, e56, eJ50⟩ := eJ50
                      refine r0_56 Γ Ξ e56 dX0_cheapestWay_201 ?_
                      refine A_aload_n Γ dX0_cheapestWay_202 0 rfl ?_
                      refine g0_54 Γ Ξ dX0_cheapestWay_203 ?_
                      refine A_iload_n Γ dX0_cheapestWay_206 2 rfl ?_
                      replace eJ50 := b1 eJ50
                      obtain ⟨v57, e58, eJ50⟩ := eJ50
                      refine r0_54 Γ Ξ e58 dX0_cheapestWay_207 ?_
                      refine A_isub Γ dX0_cheapestWay_208 ?_
                      refine A_aload_n Γ dX0_cheapestWay_209 0 rfl ?_
                      refine g0_56 Γ Ξ dX0_cheapestWay_210 ?_
                      refine A_iload_n Γ dX0_cheapestWay_213 3 rfl ?_
                      replace eJ50 := b1 eJ50
                      obtain ⟨v59, e60, eJ50⟩ := eJ50
                      refine r0_56 Γ Ξ e60 dX0_cheapestWay_214 ?_
                      refine A_icmp_ge (t := 248) Γ dX0_cheapestWay_215 (by decide) (fun c => ?_) (fun c => ?_)
                      · replace eJ50 := it_t c eJ50
                        obtain ⟨rfl, rfl⟩ := inj2 eJ50
                        exact A_sub [0, 1, 2] rfl hJJ50
                      · replace eJ50 := it_f c eJ50
                        refine A_aload_n Γ dX0_cheapestWay_218 0 rfl ?_
                        refine g0_56 Γ Ξ dX0_cheapestWay_219 ?_
                        refine A_iload_n Γ dX0_cheapestWay_222 3 rfl ?_
                        refine A_aload_n Γ dX0_cheapestWay_223 0 rfl ?_
                        refine g0_56 Γ Ξ dX0_cheapestWay_224 ?_
                        refine A_iload Γ dX0_cheapestWay_227 4 rfl ?_
                        replace eJ50 := b1 eJ50
                        obtain ⟨v61, e62, eJ50⟩ := eJ50
                        refine r0_56 Γ Ξ e62 dX0_cheapestWay_229 ?_
                        refine A_aload_n Γ dX0_cheapestWay_230 0 rfl ?_
                        refine g0_54 Γ Ξ dX0_cheapestWay_231 ?_
                        refine A_iload_n Γ dX0_cheapestWay_234 2 rfl ?_
                        replace eJ50 := b1 eJ50
                        obtain ⟨v63, e64, eJ50⟩ := eJ50
                        refine r0_54 Γ Ξ e64 dX0_cheapestWay_235 ?_
                        refine A_isub Γ dX0_cheapestWay_236 ?_
                        replace eJ50 := b1 eJ50
                        obtain ⟨σ65, e66, eJ50⟩ := eJ50
                        refine w0_56 Γ Ξ e66 dX0_cheapestWay_237 ?_
                        refine A_aload_n Γ dX0_cheapestWay_238 0 rfl ?_
                        refine g0_57 Γ Ξ dX0_cheapestWay_239 ?_
                        refine A_iload_n Γ dX0_cheapestWay_242 3 rfl ?_
                        refine A_iload Γ dX0_cheapestWay_243 4 rfl ?_
                        replace eJ50 := b1 eJ50
                        obtain ⟨σ67, e68, eJ50⟩ := eJ50
                        refine w0_57 Γ Ξ e68 dX0_cheapestWay_245 ?_
                        refine A_iconst (v := 1) Γ dX0_cheapestWay_246 (by decide) ?_
                        refine A_istore_n (lv' := [(1, .int 1), (0, .ref (xo X)), (2, .int x24), (3, .int (x24 / 8)), (4, .int (8 + (x24 - x24 / 8 * 8)))]) Γ dX0_cheapestWay_247 (by decide) rfl ?_
                        obtain ⟨rfl, rfl⟩ := inj2 eJ50
                        exact A_sub [1, 0, 2] rfl hJJ50
                refine A_icmp_eq (t := 173) Γ dX0_cheapestWay_105 (by decide) (fun c => ?_) (fun c => ?_)
                · replace eJ29 := it_t c eJ29
                  obtain ⟨rfl, rfl⟩ := inj2 eJ29
                  exact A_sub [2, 3, 4, 1, 0] rfl hJJ29
                · replace eJ29 := it_f c eJ29
                  refine A_aload_n Γ dX0_cheapestWay_108 2 rfl ?_
                  refine g0_56 Γ Ξ dX0_cheapestWay_109 ?_
                  refine A_iload_n Γ dX0_cheapestWay_112 1 rfl ?_
                  replace eJ29 := b1 eJ29
                  obtain ⟨v32, e33, eJ29⟩ := eJ29
                  refine r0_56 Γ Ξ e33 dX0_cheapestWay_113 ?_
                  refine A_ldcw (v := 1000000000) Γ q1014 dX0_cheapestWay_114 ?_
                  refine A_icmp_eq (t := 173) Γ dX0_cheapestWay_117 (by decide) (fun c => ?_) (fun c => ?_)
                  · replace eJ29 := it_t c eJ29
                    obtain ⟨rfl, rfl⟩ := inj2 eJ29
                    exact A_sub [2, 3, 4, 1, 0] rfl hJJ29
                  · replace eJ29 := it_f c eJ29
                    refine A_aload_n Γ dX0_cheapestWay_120 2 rfl ?_
                    refine g0_56 Γ Ξ dX0_cheapestWay_121 ?_
                    refine A_iload_n Γ dX0_cheapestWay_124 1 rfl ?_
                    replace eJ29 := b1 eJ29
                    obtain ⟨v34, e35, eJ29⟩ := eJ29
                    refine r0_56 Γ Ξ e35 dX0_cheapestWay_125 ?_
                    refine A_aload_n Γ dX0_cheapestWay_126 2 rfl ?_
                    refine g0_54 Γ Ξ dX0_cheapestWay_127 ?_
                    refine A_iload_n Γ dX0_cheapestWay_130 4 rfl ?_
                    replace eJ29 := b1 eJ29
                    obtain ⟨v36, e37, eJ29⟩ := eJ29
                    refine r0_54 Γ Ξ e37 dX0_cheapestWay_131 ?_
                    refine A_iadd Γ dX0_cheapestWay_132 ?_
                    refine A_aload_n Γ dX0_cheapestWay_133 2 rfl ?_
                    refine g0_56 Γ Ξ dX0_cheapestWay_134 ?_
                    refine A_iload Γ dX0_cheapestWay_137 0 rfl ?_
                    replace eJ29 := b1 eJ29
                    obtain ⟨v38, e39, eJ29⟩ := eJ29
                    refine r0_56 Γ Ξ e39 dX0_cheapestWay_139 ?_
                    refine A_icmp_ge (t := 173) Γ dX0_cheapestWay_140 (by decide) (fun c => ?_) (fun c => ?_)
                    · replace eJ29 := it_t c eJ29
                      obtain ⟨rfl, rfl⟩ := inj2 eJ29
                      exact A_sub [2, 3, 4, 1, 0] rfl hJJ29
                    · replace eJ29 := it_f c eJ29
                      refine A_aload_n Γ dX0_cheapestWay_143 2 rfl ?_
                      refine g0_56 Γ Ξ dX0_cheapestWay_144 ?_
                      refine A_iload Γ dX0_cheapestWay_147 0 rfl ?_
                      refine A_aload_n Γ dX0_cheapestWay_149 2 rfl ?_
                      refine g0_56 Γ Ξ dX0_cheapestWay_150 ?_
                      refine A_iload_n Γ dX0_cheapestWay_153 1 rfl ?_
                      replace eJ29 := b1 eJ29
                      obtain ⟨v40, e41, eJ29⟩ := eJ29
                      refine r0_56 Γ Ξ e41 dX0_cheapestWay_154 ?_
                      refine A_aload_n Γ dX0_cheapestWay_155 2 rfl ?_
                      refine g0_54 Γ Ξ dX0_cheapestWay_156 ?_
                      refine A_iload_n Γ dX0_cheapestWay_159 4 rfl ?_
                      replace eJ29 := b1 eJ29
                      obtain ⟨v42, e43, eJ29⟩ := eJ29
                      refine r0_54 Γ Ξ e43 dX0_cheapestWay_160 ?_
                      refine A_iadd Γ dX0_cheapestWay_161 ?_
                      replace eJ29 := b1 eJ29
                      obtain ⟨σ44, e45, eJ29⟩ := eJ29
                      refine w0_56 Γ Ξ e45 dX0_cheapestWay_162 ?_
                      refine A_aload_n Γ dX0_cheapestWay_163 2 rfl ?_
                      refine g0_57 Γ Ξ dX0_cheapestWay_164 ?_
                      refine A_iload Γ dX0_cheapestWay_167 0 rfl ?_
                      refine A_iload_n Γ dX0_cheapestWay_169 1 rfl ?_
                      replace eJ29 := b1 eJ29
                      obtain ⟨σ46, e47, eJ29⟩ := eJ29
                      refine w0_57 Γ Ξ e47 dX0_cheapestWay_170 ?_
                      refine A_iconst (v := 1) Γ dX0_cheapestWay_171 (by decide) ?_
                      refine A_istore_n (lv' := [(1, .int 1), (4, .int (8 + (x24 - x24 / 8 * 8))), (3, .int (x24 / 8)), (0, .ref (xo X)), (2, .int x24)]) Γ dX0_cheapestWay_172 (by decide) rfl ?_
                      obtain ⟨rfl, rfl⟩ := inj2 eJ29
                      exact A_sub [3, 0, 4, 2, 1] rfl hJJ29
          exact A_sub [2, 1, 0] rfl (hLL21 _ _ _ _ eLL21)
    exact A_sub [1, 0] rfl (hLL17 _ _ _ eLL17)
  replace eLL1 := lq2_ex eLL1
  obtain ⟨nL1, eLL1⟩ := eLL1
  have hLL1 : ∀ (nL1 : Nat) (σ2 : St) (x3 : Int32), lpf2 (c_cheapestWay_L1) nL1 σ2 x3 = some σ4 → At G 5 σ2 [(0, .ref (xo X)), (1, .int x3)] [] 2 := by
    intro nL1
    induction nL1 with
    | zero => intro σ2 x3 eL1; exact (lpf2_0 eL1).elim
    | succ nL1 ihL1 =>
      intro σ2 x3 eL1
      replace eL1 := lpf2_s eL1
      obtain ⟨qL1, eL1, hqL1⟩ := eL1
      rw [c_cheapestWay_L1] at eL1
      refine A_iload_n Γ dX0_cheapestWay_2 1 rfl ?_
      refine A_bipush (v := 8) Γ dX0_cheapestWay_3 (by decide) ?_
      refine A_icmp_ge (t := 67) Γ dX0_cheapestWay_5 (by decide) (fun c => ?_) (fun c => ?_)
      · replace eL1 := it_t c eL1
        obtain rfl := pr1 (lpx2 eL1 hqL1)
        exact A_sub [0] rfl hXL1
      · replace eL1 := it_f c eL1
        refine A_aload_n Γ dX0_cheapestWay_8 0 rfl ?_
        refine g0_56 Γ Ξ dX0_cheapestWay_9 ?_
        refine A_iload_n Γ dX0_cheapestWay_12 1 rfl ?_
        refine A_aload_n Γ dX0_cheapestWay_13 0 rfl ?_
        refine g0_52 Γ Ξ dX0_cheapestWay_14 ?_
        refine A_iload_n Γ dX0_cheapestWay_17 1 rfl ?_
        replace eL1 := b1 eL1
        obtain ⟨v5, e6, eL1⟩ := eL1
        refine r0_52 Γ Ξ e6 dX0_cheapestWay_18 ?_
        replace eL1 := b1 eL1
        obtain ⟨x8, eJ7, eL1⟩ := eL1
        have hJJ7 : At G 5 σ2 [(0, .ref (xo X)), (1, .int x3)] [.int x8, .int x3, .ref (xad X 56)] 29 := by
          replace eL1 := b1 eL1
          obtain ⟨σ9, e10, eL1⟩ := eL1
          refine w0_56 Γ Ξ e10 dX0_cheapestWay_29 ?_
          refine A_aload_n Γ dX0_cheapestWay_30 0 rfl ?_
          refine g0_56 Γ Ξ dX0_cheapestWay_31 ?_
          refine A_bipush (v := 8) Γ dX0_cheapestWay_34 (by decide) ?_
          refine A_iload_n Γ dX0_cheapestWay_36 1 rfl ?_
          refine A_iadd Γ dX0_cheapestWay_37 ?_
          refine A_ldcw (v := 1000000000) Γ q1014 dX0_cheapestWay_38 ?_
          replace eL1 := b1 eL1
          obtain ⟨σ11, e12, eL1⟩ := eL1
          refine w0_56 Γ Ξ e12 dX0_cheapestWay_41 ?_
          refine A_aload_n Γ dX0_cheapestWay_42 0 rfl ?_
          refine g0_57 Γ Ξ dX0_cheapestWay_43 ?_
          refine A_iload_n Γ dX0_cheapestWay_46 1 rfl ?_
          refine A_bipush (v := (-9)) Γ dX0_cheapestWay_47 (by decide) ?_
          replace eL1 := b1 eL1
          obtain ⟨σ13, e14, eL1⟩ := eL1
          refine w0_57 Γ Ξ e14 dX0_cheapestWay_49 ?_
          refine A_aload_n Γ dX0_cheapestWay_50 0 rfl ?_
          refine g0_57 Γ Ξ dX0_cheapestWay_51 ?_
          refine A_bipush (v := 8) Γ dX0_cheapestWay_54 (by decide) ?_
          refine A_iload_n Γ dX0_cheapestWay_56 1 rfl ?_
          refine A_iadd Γ dX0_cheapestWay_57 ?_
          refine A_bipush (v := (-9)) Γ dX0_cheapestWay_58 (by decide) ?_
          replace eL1 := b1 eL1
          obtain ⟨σ15, e16, eL1⟩ := eL1
          refine w0_57 Γ Ξ e16 dX0_cheapestWay_60 ?_
          refine A_iinc (v := x3 + 1) (lv' := [(1, .int (x3 + 1)), (0, .ref (xo X))]) Γ dX0_cheapestWay_61 1 rfl rfl (by decide) rfl ?_
          refine A_goto (t := 2) Γ dX0_cheapestWay_64 (by decide) ?_
          exact A_sub [1, 0] rfl (ihL1 _ _ (lpc2 eL1 hqL1))
        refine A_if_le (t := 26) Γ dX0_cheapestWay_19 (by decide) (fun c => ?_) (fun c => ?_)
        · replace eJ7 := it_t c eJ7
          refine A_ldcw (v := 1000000000) Γ q1014 dX0_cheapestWay_26 ?_
          obtain rfl := inj1 eJ7
          exact A_sub [0, 1] rfl hJJ7
        · replace eJ7 := it_f c eJ7
          refine A_iconst (v := 0) Γ dX0_cheapestWay_22 (by decide) ?_
          refine A_goto (t := 29) Γ dX0_cheapestWay_23 (by decide) ?_
          obtain rfl := inj1 eJ7
          exact A_sub [0, 1] rfl hJJ7
  exact A_sub [1, 0] rfl (hLL1 _ _ _ eLL1)
theorem mtX0_cheapestWay (l : Launch) (X : Xw) {σ σ' : St}  {r : Int32} (h : c_cheapestWay σ = some (r, σ')) : MetZ 0 l X yX0_cheapestWay cX0_cheapestWay 5 (some .int) 0 0 [.ref (xo X)] σ (some (.int r)) σ' := MetZ.ofAt (by decide) (Nat.le_of_ble_eq_true rfl) (fun G _ Γ Ξ hR hret => wkX0_cheapestWay Γ Ξ hR h hret)
theorem kX0_X0cheapestWay {G : Gx} {X : Xw} {cc : ByteArray} {nL pc F LO : Nat} {σ σ' : St} {lv : List (Nat × Value)} {st : List Value} (Γ : Ok G RX0 cc nL) (Ξ : OkX 0 G X)  {r : Int32} (hRm : Rm G F LO) (hf : 0 + 1 ≤ F) (hlo : 8 + (5 + 11) + 0 ≤ LO) (h : c_cheapestWay σ = some (r, σ')) (hW : (st.map fun v => v.category).sum ≤ 8) (d : decode cc pc = .ok (.invokevirtual 430, 3)) (kk : At G nL σ' lv (.int r :: st) (pc + 3)) : At G nL σ lv (.ref (xo X) :: st) pc := A_callV Γ Ξ rfl rfl (mtX0_cheapestWay (gl G) X h) (lw_V q1010 q1012 qs25 q63 q1013) (n := 0) (by decide +kernel) (rm_ok hRm hf hlo) (rm_k hRm) rfl rfl hW d kk
set_option maxHeartbeats 4000000 in
set_option maxRecDepth 100000 in
theorem wkX0_bringOne {G : Gx} {X : Xw} {σ σ' : St} {a1 : Int32} (Γ : Ok G RX0 cX0_bringOne 4) (Ξ : OkX 0 G X) (hRm : Rm G 0 0)  (h : c_bringOne σ a1 = some σ') (hret : ∀ (pc : Nat) (lv : List (Nat × Value)), retIs cX0_bringOne none (none) pc → At G 4 σ' lv [] pc) : At G 4 σ [(0, .ref (xo X)), (1, .int a1)] [] 0 := by
  rw [c_bringOne] at h
  refine A_aload_n Γ dX0_bringOne_0 0 rfl ?_
  refine g0_53 Γ Ξ dX0_bringOne_1 ?_
  refine A_iload_n Γ dX0_bringOne_4 1 rfl ?_
  refine A_dup2 Γ dX0_bringOne_5 rfl rfl ?_
  replace h := b1 h
  obtain ⟨v1, e2, h⟩ := h
  refine r0_53 Γ Ξ e2 dX0_bringOne_6 ?_
  refine A_iconst (v := 1) Γ dX0_bringOne_7 (by decide) ?_
  refine A_isub Γ dX0_bringOne_8 ?_
  replace h := b1 h
  obtain ⟨σ3, e4, h⟩ := h
  refine w0_53 Γ Ξ e4 dX0_bringOne_9 ?_
  refine A_bipush (v := 8) Γ dX0_bringOne_10 (by decide) ?_
  refine A_iload_n Γ dX0_bringOne_12 1 rfl ?_
  refine A_iadd Γ dX0_bringOne_13 ?_
  refine A_istore_n (lv' := [(2, .int (8 + a1)), (0, .ref (xo X)), (1, .int a1)]) Γ dX0_bringOne_14 (by decide) rfl ?_
  replace h := b2 h
  obtain ⟨σ8, x9, eLL5, h⟩ := h
  have hXL5 : At G 4 σ8 [(0, .ref (xo X)), (2, .int x9)] [] 83 := by
    refine A_aload_n Γ dX0_bringOne_83 0 rfl ?_
    refine g0_52 Γ Ξ dX0_bringOne_84 ?_
    refine A_iload_n Γ dX0_bringOne_87 1 rfl ?_
    refine A_dup2 Γ dX0_bringOne_88 rfl rfl ?_
    replace h := b1 h
    obtain ⟨v24, e25, h⟩ := h
    refine r0_52 Γ Ξ e25 dX0_bringOne_89 ?_
    refine A_iconst (v := 1) Γ dX0_bringOne_90 (by decide) ?_
    refine A_isub Γ dX0_bringOne_91 ?_
    replace h := b1 h
    obtain ⟨σ26, e27, h⟩ := h
    refine w0_52 Γ Ξ e27 dX0_bringOne_92 ?_
    obtain rfl := inj1 h
    exact hret _ _ dX0_bringOne_93
  replace eLL5 := lq2_ex eLL5
  obtain ⟨nL5, eLL5⟩ := eLL5
  have hLL5 : ∀ (nL5 : Nat) (σ6 : St) (x7 : Int32), lpf2 (c_bringOne_L5) nL5 σ6 x7 = some (σ8, x9) → At G 4 σ6 [(0, .ref (xo X)), (2, .int x7)] [] 15 := by
    intro nL5
    induction nL5 with
    | zero => intro σ6 x7 eL5; exact (lpf2_0 eL5).elim
    | succ nL5 ihL5 =>
      intro σ6 x7 eL5
      replace eL5 := lpf2_s eL5
      obtain ⟨qL5, eL5, hqL5⟩ := eL5
      rw [c_bringOne_L5] at eL5
      refine A_aload_n Γ dX0_bringOne_15 0 rfl ?_
      refine g0_57 Γ Ξ dX0_bringOne_16 ?_
      refine A_iload_n Γ dX0_bringOne_19 1 rfl ?_
      replace eL5 := b1 eL5
      obtain ⟨v10, e11, eL5⟩ := eL5
      refine r0_57 Γ Ξ e11 dX0_bringOne_20 ?_
      refine A_bipush (v := (-9)) Γ dX0_bringOne_21 (by decide) ?_
      refine A_icmp_eq (t := 83) Γ dX0_bringOne_23 (by decide) (fun c => ?_) (fun c => ?_)
      · replace eL5 := it_t c eL5
        obtain ⟨rfl, rfl⟩ := pr2 (lpx2 eL5 hqL5)
        exact A_sub [0, 1] rfl hXL5
      · replace eL5 := it_f c eL5
        refine A_aload_n Γ dX0_bringOne_26 0 rfl ?_
        refine g0_57 Γ Ξ dX0_bringOne_27 ?_
        refine A_iload_n Γ dX0_bringOne_30 1 rfl ?_
        replace eL5 := b1 eL5
        obtain ⟨v12, e13, eL5⟩ := eL5
        refine r0_57 Γ Ξ e13 dX0_bringOne_31 ?_
        refine A_istore_n (lv' := [(3, .int v12), (0, .ref (xo X)), (2, .int x7)]) Γ dX0_bringOne_32 (by decide) rfl ?_
        refine A_iload_n Γ dX0_bringOne_33 2 rfl ?_
        refine A_bipush (v := 8) Γ dX0_bringOne_34 (by decide) ?_
        replace eL5 := b1 eL5
        obtain ⟨σ15, eJ14, eL5⟩ := eL5
        have hJJ14 : At G 4 σ15 [(0, .ref (xo X)), (3, .int v12)] [] 78 := by
          refine A_iload_n Γ dX0_bringOne_78 1 rfl ?_
          refine A_istore_n (lv' := [(2, .int v12), (0, .ref (xo X)), (3, .int v12)]) Γ dX0_bringOne_79 (by decide) rfl ?_
          refine A_goto (t := 15) Γ dX0_bringOne_80 (by decide) ?_
          exact A_sub [1, 0] rfl (ihL5 _ _ (lpc2 eL5 hqL5))
        refine A_icmp_lt (t := 60) Γ dX0_bringOne_36 (by decide) (fun c => ?_) (fun c => ?_)
        · replace eJ14 := it_t c eJ14
          refine A_aload_n Γ dX0_bringOne_60 1 rfl ?_
          refine g0_55 Γ Ξ dX0_bringOne_61 ?_
          refine A_bipush (v := 8) Γ dX0_bringOne_64 (by decide) ?_
          refine A_iload_n Γ dX0_bringOne_66 2 rfl ?_
          refine A_imul Γ dX0_bringOne_67 ?_
          refine A_iload_n Γ dX0_bringOne_68 0 rfl ?_
          refine A_iadd Γ dX0_bringOne_69 ?_
          refine A_bipush (v := 8) Γ dX0_bringOne_70 (by decide) ?_
          refine A_isub Γ dX0_bringOne_72 ?_
          refine A_dup2 Γ dX0_bringOne_73 rfl rfl ?_
          replace eJ14 := b1 eJ14
          obtain ⟨v16, e17, eJ14⟩ := eJ14
          refine r0_55 Γ Ξ e17 dX0_bringOne_74 ?_
          refine A_iconst (v := 1) Γ dX0_bringOne_75 (by decide) ?_
          refine A_isub Γ dX0_bringOne_76 ?_
          replace eJ14 := b1 eJ14
          obtain ⟨σ18, e19, eJ14⟩ := eJ14
          refine w0_55 Γ Ξ e19 dX0_bringOne_77 ?_
          obtain rfl := inj1 eJ14
          exact A_sub [1, 0] rfl hJJ14
        · replace eJ14 := it_f c eJ14
          refine A_aload_n Γ dX0_bringOne_39 1 rfl ?_
          refine g0_55 Γ Ξ dX0_bringOne_40 ?_
          refine A_bipush (v := 8) Γ dX0_bringOne_43 (by decide) ?_
          refine A_iload_n Γ dX0_bringOne_45 0 rfl ?_
          refine A_imul Γ dX0_bringOne_46 ?_
          refine A_iload_n Γ dX0_bringOne_47 2 rfl ?_
          refine A_iadd Γ dX0_bringOne_48 ?_
          refine A_bipush (v := 8) Γ dX0_bringOne_49 (by decide) ?_
          refine A_isub Γ dX0_bringOne_51 ?_
          refine A_dup2 Γ dX0_bringOne_52 rfl rfl ?_
          replace eJ14 := b1 eJ14
          obtain ⟨v20, e21, eJ14⟩ := eJ14
          refine r0_55 Γ Ξ e21 dX0_bringOne_53 ?_
          refine A_iconst (v := 1) Γ dX0_bringOne_54 (by decide) ?_
          refine A_iadd Γ dX0_bringOne_55 ?_
          replace eJ14 := b1 eJ14
          obtain ⟨σ22, e23, eJ14⟩ := eJ14
          refine w0_55 Γ Ξ e23 dX0_bringOne_56 ?_
          refine A_goto (t := 78) Γ dX0_bringOne_57 (by decide) ?_
          obtain rfl := inj1 eJ14
          exact A_sub [1, 0] rfl hJJ14
  exact A_sub [1, 0] rfl (hLL5 _ _ _ eLL5)
theorem mtX0_bringOne (l : Launch) (X : Xw) {σ σ' : St} {a1 : Int32}  (h : c_bringOne σ a1 = some σ') : MetZ 0 l X yX0_bringOne cX0_bringOne 4 none 0 0 [.ref (xo X), .int a1] σ (none) σ' := MetZ.ofAt (by decide) (Nat.le_of_ble_eq_true rfl) (fun G _ Γ Ξ hR hret => wkX0_bringOne Γ Ξ hR h hret)
theorem kX0_X0bringOne {G : Gx} {X : Xw} {cc : ByteArray} {nL pc F LO : Nat} {σ σ' : St} {lv : List (Nat × Value)} {st : List Value} (Γ : Ok G RX0 cc nL) (Ξ : OkX 0 G X) {a1 : Int32}  (hRm : Rm G F LO) (hf : 0 + 1 ≤ F) (hlo : 8 + (4 + 11) + 0 ≤ LO) (h : c_bringOne σ a1 = some σ') (hW : (st.map fun v => v.category).sum ≤ 8) (d : decode cc pc = .ok (.invokevirtual 433, 3)) (kk : At G nL σ' lv (st) (pc + 3)) : At G nL σ lv (.int a1 :: .ref (xo X) :: st) pc := A_callV Γ Ξ rfl rfl (mtX0_bringOne (gl G) X h) (lw_V q1015 q1017 qs26 q63 q1018) (n := 1) (by decide +kernel) (rm_ok hRm hf hlo) (rm_k hRm) rfl rfl hW d kk
set_option maxHeartbeats 4000000 in
set_option maxRecDepth 100000 in
theorem wkX0_pool {G : Gx} {X : Xw} {σ σ' : St} {a1 : Int32} {a2 : Int32} (Γ : Ok G RX0 cX0_pool 8) (Ξ : OkX 0 G X) (hRm : Rm G 3 74) {r : Int32} (h : c_pool σ a1 a2 = some (r, σ')) (hret : ∀ (pc : Nat) (lv : List (Nat × Value)), retIs cX0_pool (some .int) (some (.int r)) pc → At G 8 σ' lv [.int r] pc) : At G 8 σ [(0, .ref (xo X)), (1, .int a1), (2, .int a2)] [] 0 := by
  rw [c_pool] at h
  refine A_iload_n Γ dX0_pool_0 1 rfl ?_
  replace h := b1 h
  obtain ⟨v2, e1, h⟩ := h
  refine kX0_X0isRow Γ (kpX Ξ) hRm (by decide) (by decide) e1 (Nat.le_of_ble_eq_true rfl) dX0_pool_1 ?_
  refine A_if_eq (t := 14) Γ dX0_pool_4 (by decide) (fun c => ?_) (fun c => ?_)
  · replace h := it_t c h
    refine A_iconst (v := (-1)) Γ dX0_pool_14 (by decide) ?_
    obtain ⟨rfl, rfl⟩ := inj2 h
    exact hret _ _ dX0_pool_15
  · replace h := it_f c h
    refine A_iload_n Γ dX0_pool_7 2 rfl ?_
    replace h := b1 h
    obtain ⟨v4, e3, h⟩ := h
    refine kX0_X0isRow Γ (kpX Ξ) hRm (by decide) (by decide) e3 (Nat.le_of_ble_eq_true rfl) dX0_pool_8 ?_
    refine A_if_ne (t := 16) Γ dX0_pool_11 (by decide) (fun c => ?_) (fun c => ?_)
    · replace h := it_f c h
      refine A_aload_n Γ dX0_pool_16 0 rfl ?_
      refine g0_5 Γ Ξ dX0_pool_17 ?_
      refine A_iload_n Γ dX0_pool_20 1 rfl ?_
      replace h := b1 h
      obtain ⟨k5, e6, h⟩ := h
      refine A_rows Γ Ξ e6 dX0_pool_21 ?_
      refine A_ifnull (t := 34) Γ dX0_pool_22 (by decide) (fun cn7 => ?_) (fun cn7 => ?_)
      · replace h := it_f cn7 h
        refine A_aload_n Γ dX0_pool_34 0 rfl ?_
        refine A_iconst (v := 1) Γ dX0_pool_35 (by decide) ?_
        replace h := b2 h
        obtain ⟨v9, σ10, e8, h⟩ := h
        refine kX0_X0found Γ Ξ hRm (by decide) (by decide) e8 (Nat.le_of_ble_eq_true rfl) dX0_pool_36 ?_
        obtain ⟨rfl, rfl⟩ := inj2 h
        exact hret _ _ dX0_pool_39
      · replace h := it_t cn7 h
        refine A_aload_n Γ dX0_pool_25 0 rfl ?_
        refine g0_5 Γ Ξ dX0_pool_26 ?_
        refine A_iload_n Γ dX0_pool_29 2 rfl ?_
        replace h := b1 h
        obtain ⟨k11, e12, h⟩ := h
        refine A_rows Γ Ξ e12 dX0_pool_30 ?_
        refine A_ifnonnull (t := 40) Γ dX0_pool_31 (by decide) (fun cn13 => ?_) (fun cn13 => ?_)
        · replace h := it_t cn13 h
          refine A_aload_n Γ dX0_pool_40 0 rfl ?_
          refine g0_5 Γ Ξ dX0_pool_41 ?_
          refine A_iload_n Γ dX0_pool_44 1 rfl ?_
          replace h := b1 h
          obtain ⟨k14, e15, h⟩ := h
          refine A_rowsD Γ Ξ e15 dX0_pool_45 ?_
          replace h := b1 h
          obtain ⟨n16, e17, h⟩ := h
          refine A_alenD Γ Ξ (Or.inl (kInt_rowD e15)) rfl e17 dX0_pool_46 ?_
          refine A_bipush (v := 8) Γ dX0_pool_47 (by decide) ?_
          refine A_icmp_ne (t := 64) Γ dX0_pool_49 (by decide) (fun c => ?_) (fun c => ?_)
          · replace h := it_f c h
            refine A_aload_n Γ dX0_pool_64 0 rfl ?_
            refine A_iconst (v := 5) Γ dX0_pool_65 (by decide) ?_
            replace h := b2 h
            obtain ⟨v19, σ20, e18, h⟩ := h
            refine kX0_X0found Γ Ξ hRm (by decide) (by decide) e18 (Nat.le_of_ble_eq_true rfl) dX0_pool_66 ?_
            obtain ⟨rfl, rfl⟩ := inj2 h
            exact hret _ _ dX0_pool_69
          · replace h := it_t c h
            refine A_aload_n Γ dX0_pool_52 0 rfl ?_
            refine g0_5 Γ Ξ dX0_pool_53 ?_
            refine A_iload_n Γ dX0_pool_56 2 rfl ?_
            replace h := b1 h
            obtain ⟨k21, e22, h⟩ := h
            refine A_rowsD Γ Ξ e22 dX0_pool_57 ?_
            replace h := b1 h
            obtain ⟨n23, e24, h⟩ := h
            refine A_alenD Γ Ξ (Or.inl (kInt_rowD e22)) rfl e24 dX0_pool_58 ?_
            refine A_bipush (v := 8) Γ dX0_pool_59 (by decide) ?_
            refine A_icmp_eq (t := 70) Γ dX0_pool_61 (by decide) (fun c => ?_) (fun c => ?_)
            · replace h := it_t c h
              refine A_iconst (v := 1) Γ dX0_pool_70 (by decide) ?_
              refine A_istore_n (lv' := [(3, .int 1), (0, .ref (xo X)), (1, .int a1), (2, .int a2)]) Γ dX0_pool_71 (by decide) rfl ?_
              refine A_iconst (v := 0) Γ dX0_pool_72 (by decide) ?_
              refine A_istore (lv' := [(4, .int 0), (3, .int 1), (0, .ref (xo X)), (1, .int a1), (2, .int a2)]) Γ dX0_pool_73 (by decide) rfl ?_
              replace h := b2 h
              obtain ⟨σ29, x30, eLL25, h⟩ := h
              have hXL25 : At G 8 σ29 [(0, .ref (xo X)), (3, .int x30)] [] 192 := by
                refine A_iload_n Γ dX0_pool_192 1 rfl ?_
                refine A_if_ne (t := 202) Γ dX0_pool_193 (by decide) (fun c => ?_) (fun c => ?_)
                · replace h := it_f c h
                  refine A_iconst (v := 0) Γ dX0_pool_202 (by decide) ?_
                  refine A_istore (lv' := [(4, .int 0), (0, .ref (xo X)), (3, .int x30)]) Γ dX0_pool_203 (by decide) rfl ?_
                  replace h := b1 h
                  obtain ⟨σ72, eLL69, h⟩ := h
                  have hXL69 : At G 8 σ72 [(0, .ref (xo X))] [] 308 := by
                    refine A_iconst (v := 0) Γ dX0_pool_308 (by decide) ?_
                    refine A_istore (lv' := [(4, .int 0), (0, .ref (xo X))]) Γ dX0_pool_309 (by decide) rfl ?_
                    refine A_aload_n Γ dX0_pool_311 1 rfl ?_
                    replace h := b2 h
                    obtain ⟨v90, σ91, e89, h⟩ := h
                    refine kX0_X0cheapestWay Γ Ξ hRm (by decide) (by decide) e89 (Nat.le_of_ble_eq_true rfl) dX0_pool_312 ?_
                    refine A_istore (lv' := [(5, .int v90), (4, .int 0), (0, .ref (xo X))]) Γ dX0_pool_315 (by decide) rfl ?_
                    replace h := b2 h
                    obtain ⟨σ96, x97, eLL92, h⟩ := h
                    have hXL92 : At G 8 σ96 [(0, .ref (xo X)), (4, .int x97)] [] 354 := by
                      refine A_iconst (v := 0) Γ dX0_pool_354 (by decide) ?_
                      refine A_istore (lv' := [(6, .int 0), (0, .ref (xo X)), (4, .int x97)]) Γ dX0_pool_355 (by decide) rfl ?_
                      refine A_iconst (v := 0) Γ dX0_pool_357 (by decide) ?_
                      refine A_istore (lv' := [(7, .int 0), (6, .int 0), (0, .ref (xo X)), (4, .int x97)]) Γ dX0_pool_358 (by decide) rfl ?_
                      replace h := b1 h
                      obtain ⟨x108, eLL105, h⟩ := h
                      have hXL105 : At G 8 σ96 [(0, .ref (xo X)), (4, .int x97), (6, .int x108)] [] 385 := by
                        refine A_aload_n Γ dX0_pool_385 0 rfl ?_
                        refine A_iload Γ dX0_pool_386 1 rfl ?_
                        refine A_iload Γ dX0_pool_388 2 rfl ?_
                        replace h := b2 h
                        obtain ⟨v112, σ113, e111, h⟩ := h
                        refine kX0_X0say Γ Ξ hRm (by decide) (by decide) e111 (Nat.le_of_ble_eq_true rfl) dX0_pool_390 ?_
                        obtain ⟨rfl, rfl⟩ := inj2 h
                        exact hret _ _ dX0_pool_393
                      replace eLL105 := lq2_ex eLL105
                      obtain ⟨nL105, eLL105⟩ := eLL105
                      have hLL105 : ∀ (nL105 : Nat) (x106 : Int32) (x107 : Int32), lpf2 (c_pool_L105 σ96) nL105 x106 x107 = some x108 → At G 8 σ96 [(0, .ref (xo X)), (4, .int x97), (6, .int x106), (7, .int x107)] [] 360 := by
                        intro nL105
                        induction nL105 with
                        | zero => intro x106 x107 eL105; exact (lpf2_0 eL105).elim
                        | succ nL105 ihL105 =>
                          intro x106 x107 eL105
                          replace eL105 := lpf2_s eL105
                          obtain ⟨qL105, eL105, hqL105⟩ := eL105
                          rw [c_pool_L105] at eL105
                          refine A_iload Γ dX0_pool_360 3 rfl ?_
                          refine A_bipush (v := 8) Γ dX0_pool_362 (by decide) ?_
                          refine A_icmp_ge (t := 385) Γ dX0_pool_364 (by decide) (fun c => ?_) (fun c => ?_)
                          · replace eL105 := it_t c eL105
                            obtain rfl := pr1 (lpx2 eL105 hqL105)
                            exact A_sub [0, 1, 2] rfl hXL105
                          · replace eL105 := it_f c eL105
                            refine A_iload Γ dX0_pool_367 2 rfl ?_
                            refine A_aload_n Γ dX0_pool_369 0 rfl ?_
                            refine g0_53 Γ Ξ dX0_pool_370 ?_
                            refine A_iload Γ dX0_pool_373 3 rfl ?_
                            replace eL105 := b1 eL105
                            obtain ⟨v109, e110, eL105⟩ := eL105
                            refine r0_53 Γ Ξ e110 dX0_pool_375 ?_
                            refine A_iadd Γ dX0_pool_376 ?_
                            refine A_istore (lv' := [(6, .int (x106 + v109)), (0, .ref (xo X)), (4, .int x97), (7, .int x107)]) Γ dX0_pool_377 (by decide) rfl ?_
                            refine A_iinc (v := x107 + 1) (lv' := [(7, .int (x107 + 1)), (6, .int (x106 + v109)), (0, .ref (xo X)), (4, .int x97)]) Γ dX0_pool_379 3 rfl rfl (by decide) rfl ?_
                            refine A_goto (t := 360) Γ dX0_pool_382 (by decide) ?_
                            exact A_sub [2, 3, 1, 0] rfl (ihL105 _ _ (lpc2 eL105 hqL105))
                      exact A_sub [2, 3, 1, 0] rfl (hLL105 _ _ _ eLL105)
                    replace eLL92 := lq3_ex eLL92
                    obtain ⟨nL92, eLL92⟩ := eLL92
                    have hLL92 : ∀ (nL92 : Nat) (σ93 : St) (x94 : Int32) (x95 : Int32), lpf3 (c_pool_L92) nL92 σ93 x94 x95 = some (σ96, x97) → At G 8 σ93 [(0, .ref (xo X)), (4, .int x94), (5, .int x95)] [] 317 := by
                      intro nL92
                      induction nL92 with
                      | zero => intro σ93 x94 x95 eL92; exact (lpf3_0 eL92).elim
                      | succ nL92 ihL92 =>
                        intro σ93 x94 x95 eL92
                        replace eL92 := lpf3_s eL92
                        obtain ⟨qL92, eL92, hqL92⟩ := eL92
                        rw [c_pool_L92] at eL92
                        refine A_iload Γ dX0_pool_317 2 rfl ?_
                        refine A_bipush (v := (-9)) Γ dX0_pool_319 (by decide) ?_
                        refine A_icmp_eq (t := 354) Γ dX0_pool_321 (by decide) (fun c => ?_) (fun c => ?_)
                        · replace eL92 := it_t c eL92
                          obtain ⟨rfl, rfl⟩ := pr2 (lpx3 eL92 hqL92)
                          exact A_sub [0, 1] rfl hXL92
                        · replace eL92 := it_f c eL92
                          refine A_iload Γ dX0_pool_324 1 rfl ?_
                          refine A_aload_n Γ dX0_pool_326 0 rfl ?_
                          refine g0_56 Γ Ξ dX0_pool_327 ?_
                          refine A_bipush (v := 8) Γ dX0_pool_330 (by decide) ?_
                          refine A_iload Γ dX0_pool_332 2 rfl ?_
                          refine A_iadd Γ dX0_pool_334 ?_
                          replace eL92 := b1 eL92
                          obtain ⟨v98, e99, eL92⟩ := eL92
                          refine r0_56 Γ Ξ e99 dX0_pool_335 ?_
                          refine A_iadd Γ dX0_pool_336 ?_
                          refine A_istore (lv' := [(4, .int (x94 + v98)), (0, .ref (xo X)), (5, .int x95)]) Γ dX0_pool_337 (by decide) rfl ?_
                          refine A_aload_n Γ dX0_pool_339 1 rfl ?_
                          refine A_iload Γ dX0_pool_340 2 rfl ?_
                          replace eL92 := b1 eL92
                          obtain ⟨σ101, e100, eL92⟩ := eL92
                          refine kX0_X0bringOne Γ Ξ hRm (by decide) (by decide) e100 (Nat.le_of_ble_eq_true rfl) dX0_pool_342 ?_
                          refine A_aload_n Γ dX0_pool_345 1 rfl ?_
                          replace eL92 := b2 eL92
                          obtain ⟨v103, σ104, e102, eL92⟩ := eL92
                          refine kX0_X0cheapestWay Γ Ξ hRm (by decide) (by decide) e102 (Nat.le_of_ble_eq_true rfl) dX0_pool_346 ?_
                          refine A_istore (lv' := [(5, .int v103), (4, .int (x94 + v98)), (0, .ref (xo X))]) Γ dX0_pool_349 (by decide) rfl ?_
                          refine A_goto (t := 317) Γ dX0_pool_351 (by decide) ?_
                          exact A_sub [2, 1, 0] rfl (ihL92 _ _ _ (lpc3 eL92 hqL92))
                    exact A_sub [2, 1, 0] rfl (hLL92 _ _ _ _ eLL92)
                  replace eLL69 := lq2_ex eLL69
                  obtain ⟨nL69, eLL69⟩ := eLL69
                  have hLL69 : ∀ (nL69 : Nat) (σ70 : St) (x71 : Int32), lpf2 (c_pool_L69) nL69 σ70 x71 = some σ72 → At G 8 σ70 [(0, .ref (xo X)), (4, .int x71)] [] 205 := by
                    intro nL69
                    induction nL69 with
                    | zero => intro σ70 x71 eL69; exact (lpf2_0 eL69).elim
                    | succ nL69 ihL69 =>
                      intro σ70 x71 eL69
                      replace eL69 := lpf2_s eL69
                      obtain ⟨qL69, eL69, hqL69⟩ := eL69
                      rw [c_pool_L69] at eL69
                      refine A_iload Γ dX0_pool_205 1 rfl ?_
                      refine A_bipush (v := 8) Γ dX0_pool_207 (by decide) ?_
                      refine A_icmp_ge (t := 308) Γ dX0_pool_209 (by decide) (fun c => ?_) (fun c => ?_)
                      · replace eL69 := it_t c eL69
                        obtain rfl := pr1 (lpx2 eL69 hqL69)
                        exact A_sub [0] rfl hXL69
                      · replace eL69 := it_f c eL69
                        refine A_aload_n Γ dX0_pool_212 0 rfl ?_
                        refine A_iload Γ dX0_pool_213 1 rfl ?_
                        refine A_aload_n Γ dX0_pool_215 0 rfl ?_
                        refine g0_11 Γ Ξ dX0_pool_216 ?_
                        refine A_iconst (v := 0) Γ dX0_pool_219 (by decide) ?_
                        replace eL69 := b1 eL69
                        obtain ⟨σ74, e73, eL69⟩ := eL69
                        refine kX0_X0lead Γ Ξ hRm (by decide) (by decide) e73 (Nat.le_of_ble_eq_true rfl) dX0_pool_220 ?_
                        refine A_iconst (v := 0) Γ dX0_pool_223 (by decide) ?_
                        refine A_istore (lv' := [(5, .int 0), (0, .ref (xo X)), (4, .int x71)]) Γ dX0_pool_224 (by decide) rfl ?_
                        replace eL69 := b1 eL69
                        obtain ⟨σ78, eLL75, eL69⟩ := eL69
                        have hXL75 : At G 8 σ78 [(0, .ref (xo X)), (4, .int x71)] [] 302 := by
                          refine A_iinc (v := x71 + 1) (lv' := [(4, .int (x71 + 1)), (0, .ref (xo X))]) Γ dX0_pool_302 1 rfl rfl (by decide) rfl ?_
                          refine A_goto (t := 205) Γ dX0_pool_305 (by decide) ?_
                          exact A_sub [1, 0] rfl (ihL69 _ _ (lpc2 eL69 hqL69))
                        replace eLL75 := lq2_ex eLL75
                        obtain ⟨nL75, eLL75⟩ := eLL75
                        have hLL75 : ∀ (nL75 : Nat) (σ76 : St) (x77 : Int32), lpf2 (c_pool_L75 x71) nL75 σ76 x77 = some σ78 → At G 8 σ76 [(0, .ref (xo X)), (4, .int x71), (5, .int x77)] [] 226 := by
                          intro nL75
                          induction nL75 with
                          | zero => intro σ76 x77 eL75; exact (lpf2_0 eL75).elim
                          | succ nL75 ihL75 =>
                            intro σ76 x77 eL75
                            replace eL75 := lpf2_s eL75
                            obtain ⟨qL75, eL75, hqL75⟩ := eL75
                            rw [c_pool_L75] at eL75
                            refine A_iload Γ dX0_pool_226 2 rfl ?_
                            refine A_bipush (v := 8) Γ dX0_pool_228 (by decide) ?_
                            refine A_icmp_ge (t := 302) Γ dX0_pool_230 (by decide) (fun c => ?_) (fun c => ?_)
                            · replace eL75 := it_t c eL75
                              obtain rfl := pr1 (lpx2 eL75 hqL75)
                              exact A_sub [0, 1] rfl hXL75
                            · replace eL75 := it_f c eL75
                              refine A_aload_n Γ dX0_pool_233 0 rfl ?_
                              refine g0_54 Γ Ξ dX0_pool_234 ?_
                              refine A_bipush (v := 8) Γ dX0_pool_237 (by decide) ?_
                              refine A_iload Γ dX0_pool_239 1 rfl ?_
                              refine A_imul Γ dX0_pool_241 ?_
                              refine A_iload Γ dX0_pool_242 2 rfl ?_
                              refine A_iadd Γ dX0_pool_244 ?_
                              refine A_iload Γ dX0_pool_245 1 rfl ?_
                              refine A_iload Γ dX0_pool_247 2 rfl ?_
                              replace eL75 := b1 eL75
                              obtain ⟨x80, eJ79, eL75⟩ := eL75
                              have hJJ79 : At G 8 σ76 [(0, .ref (xo X)), (4, .int x71), (5, .int x77)] [.int x80, .int ((8 * x71) + x77), .ref (xad X 54)] 281 := by
                                replace eL75 := b1 eL75
                                obtain ⟨σ85, e86, eL75⟩ := eL75
                                refine w0_54 Γ Ξ e86 dX0_pool_281 ?_
                                refine A_aload_n Γ dX0_pool_282 0 rfl ?_
                                refine g0_55 Γ Ξ dX0_pool_283 ?_
                                refine A_bipush (v := 8) Γ dX0_pool_286 (by decide) ?_
                                refine A_iload Γ dX0_pool_288 1 rfl ?_
                                refine A_imul Γ dX0_pool_290 ?_
                                refine A_iload Γ dX0_pool_291 2 rfl ?_
                                refine A_iadd Γ dX0_pool_293 ?_
                                refine A_iconst (v := 0) Γ dX0_pool_294 (by decide) ?_
                                replace eL75 := b1 eL75
                                obtain ⟨σ87, e88, eL75⟩ := eL75
                                refine w0_55 Γ Ξ e88 dX0_pool_295 ?_
                                refine A_iinc (v := x77 + 1) (lv' := [(5, .int (x77 + 1)), (0, .ref (xo X)), (4, .int x71)]) Γ dX0_pool_296 2 rfl rfl (by decide) rfl ?_
                                refine A_goto (t := 226) Γ dX0_pool_299 (by decide) ?_
                                exact A_sub [1, 2, 0] rfl (ihL75 _ _ (lpc2 eL75 hqL75))
                              refine A_icmp_eq (t := 264) Γ dX0_pool_249 (by decide) (fun c => ?_) (fun c => ?_)
                              · replace eJ79 := it_t c eJ79
                                refine A_bipush (v := (-9)) Γ dX0_pool_264 (by decide) ?_
                                refine A_goto (t := 281) Γ dX0_pool_266 (by decide) ?_
                                obtain rfl := inj1 eJ79
                                exact A_sub [0, 1, 2] rfl hJJ79
                              · replace eJ79 := it_f c eJ79
                                refine A_aload_n Γ dX0_pool_252 0 rfl ?_
                                refine g0_16 Γ Ξ dX0_pool_253 ?_
                                refine A_iload Γ dX0_pool_256 2 rfl ?_
                                replace eJ79 := b1 eJ79
                                obtain ⟨v81, e82, eJ79⟩ := eJ79
                                refine r0_16 Γ Ξ e82 dX0_pool_258 ?_
                                refine A_bipush (v := (-9)) Γ dX0_pool_259 (by decide) ?_
                                refine A_icmp_ne (t := 269) Γ dX0_pool_261 (by decide) (fun c => ?_) (fun c => ?_)
                                · replace eJ79 := it_f c eJ79
                                  refine A_aload_n Γ dX0_pool_269 0 rfl ?_
                                  refine g0_16 Γ Ξ dX0_pool_270 ?_
                                  refine A_iload Γ dX0_pool_273 2 rfl ?_
                                  replace eJ79 := b1 eJ79
                                  obtain ⟨v83, e84, eJ79⟩ := eJ79
                                  refine r0_16 Γ Ξ e84 dX0_pool_275 ?_
                                  refine A_aload_n Γ dX0_pool_276 0 rfl ?_
                                  refine g0_11 Γ Ξ dX0_pool_277 ?_
                                  refine A_isub Γ dX0_pool_280 ?_
                                  obtain rfl := inj1 eJ79
                                  exact A_sub [0, 1, 2] rfl hJJ79
                                · replace eJ79 := it_t c eJ79
                                  refine A_bipush (v := (-9)) Γ dX0_pool_264 (by decide) ?_
                                  refine A_goto (t := 281) Γ dX0_pool_266 (by decide) ?_
                                  obtain rfl := inj1 eJ79
                                  exact A_sub [0, 1, 2] rfl hJJ79
                        exact A_sub [1, 2, 0] rfl (hLL75 _ _ _ eLL75)
                  exact A_sub [1, 0] rfl (hLL69 _ _ _ eLL69)
                · replace h := it_t c h
                  refine A_aload_n Γ dX0_pool_196 0 rfl ?_
                  refine A_iconst (v := 3) Γ dX0_pool_197 (by decide) ?_
                  replace h := b2 h
                  obtain ⟨v115, σ116, e114, h⟩ := h
                  refine kX0_X0found Γ Ξ hRm (by decide) (by decide) e114 (Nat.le_of_ble_eq_true rfl) dX0_pool_198 ?_
                  obtain ⟨rfl, rfl⟩ := inj2 h
                  exact hret _ _ dX0_pool_201
              replace eLL25 := lq3_ex eLL25
              obtain ⟨nL25, eLL25⟩ := eLL25
              have hLL25 : ∀ (nL25 : Nat) (σ26 : St) (x27 : Int32) (x28 : Int32), lpf3 (c_pool_L25 a1 a2) nL25 σ26 x27 x28 = some (σ29, x30) → At G 8 σ26 [(0, .ref (xo X)), (1, .int a1), (2, .int a2), (3, .int x27), (4, .int x28)] [] 75 := by
                intro nL25
                induction nL25 with
                | zero => intro σ26 x27 x28 eL25; exact (lpf3_0 eL25).elim
                | succ nL25 ihL25 =>
                  intro σ26 x27 x28 eL25
                  replace eL25 := lpf3_s eL25
                  obtain ⟨qL25, eL25, hqL25⟩ := eL25
                  rw [c_pool_L25] at eL25
                  refine A_iload Γ dX0_pool_75 4 rfl ?_
                  refine A_bipush (v := 8) Γ dX0_pool_77 (by decide) ?_
                  refine A_icmp_ge (t := 192) Γ dX0_pool_79 (by decide) (fun c => ?_) (fun c => ?_)
                  · replace eL25 := it_t c eL25
                    obtain ⟨rfl, rfl⟩ := pr2 (lpx3 eL25 hqL25)
                    exact A_sub [0, 3] rfl hXL25
                  · replace eL25 := it_f c eL25
                    refine A_iload_n Γ dX0_pool_82 3 rfl ?_
                    refine A_aload_n Γ dX0_pool_83 0 rfl ?_
                    refine g0_5 Γ Ξ dX0_pool_84 ?_
                    refine A_iload_n Γ dX0_pool_87 1 rfl ?_
                    replace eL25 := b1 eL25
                    obtain ⟨k31, e32, eL25⟩ := eL25
                    refine A_rowsD Γ Ξ e32 dX0_pool_88 ?_
                    refine A_iload Γ dX0_pool_89 4 rfl ?_
                    replace eL25 := b1 eL25
                    obtain ⟨v33, e34, eL25⟩ := eL25
                    refine A_aldD Γ Ξ (kInt_rowD e32) rfl e34 dX0_pool_91 ?_
                    refine A_iconst (v := 0) Γ dX0_pool_92 (by decide) ?_
                    refine A_bipush (v := 30) Γ dX0_pool_93 (by decide) ?_
                    replace eL25 := b1 eL25
                    obtain ⟨v36, e35, eL25⟩ := eL25
                    refine kX0_X0in Γ (kpX Ξ) hRm (by decide) (by decide) e35 (Nat.le_of_ble_eq_true rfl) dX0_pool_95 ?_
                    replace eL25 := b1 eL25
                    obtain ⟨x38, eJ37, eL25⟩ := eL25
                    have hJJ37 : At G 8 σ26 [(0, .ref (xo X)), (1, .int a1), (2, .int a2), (4, .int x28)] [.int x38, .int x27] 124 := by
                      refine A_iand Γ dX0_pool_124 ?_
                      refine A_istore_n (lv' := [(3, .int (x27 &&& x38)), (0, .ref (xo X)), (1, .int a1), (2, .int a2), (4, .int x28)]) Γ dX0_pool_125 (by decide) rfl ?_
                      refine A_aload_n Γ dX0_pool_126 1 rfl ?_
                      refine g0_52 Γ Ξ dX0_pool_127 ?_
                      refine A_iload Γ dX0_pool_130 4 rfl ?_
                      refine A_iconst (v := 0) Γ dX0_pool_132 (by decide) ?_
                      refine A_aload_n Γ dX0_pool_133 1 rfl ?_
                      refine g0_5 Γ Ξ dX0_pool_134 ?_
                      refine A_iload_n Γ dX0_pool_137 2 rfl ?_
                      replace eL25 := b1 eL25
                      obtain ⟨k45, e46, eL25⟩ := eL25
                      refine A_rowsD Γ Ξ e46 dX0_pool_138 ?_
                      refine A_iload Γ dX0_pool_139 4 rfl ?_
                      replace eL25 := b1 eL25
                      obtain ⟨v47, e48, eL25⟩ := eL25
                      refine A_aldD Γ Ξ (kInt_rowD e46) rfl e48 dX0_pool_141 ?_
                      refine A_aload_n Γ dX0_pool_142 1 rfl ?_
                      refine g0_5 Γ Ξ dX0_pool_143 ?_
                      refine A_iload_n Γ dX0_pool_146 3 rfl ?_
                      replace eL25 := b1 eL25
                      obtain ⟨k49, e50, eL25⟩ := eL25
                      refine A_rowsD Γ Ξ e50 dX0_pool_147 ?_
                      refine A_iload Γ dX0_pool_148 4 rfl ?_
                      replace eL25 := b1 eL25
                      obtain ⟨v51, e52, eL25⟩ := eL25
                      refine A_aldD Γ Ξ (kInt_rowD e50) rfl e52 dX0_pool_150 ?_
                      refine A_isub Γ dX0_pool_151 ?_
                      replace eL25 := b1 eL25
                      obtain ⟨v54, e53, eL25⟩ := eL25
                      refine kX0_J8max Γ (kpX Ξ) hRm (by decide) (by decide) e53 (Nat.le_of_ble_eq_true rfl) dX0_pool_152 ?_
                      replace eL25 := b1 eL25
                      obtain ⟨σ55, e56, eL25⟩ := eL25
                      refine w0_52 Γ Ξ e56 dX0_pool_155 ?_
                      refine A_aload_n Γ dX0_pool_156 1 rfl ?_
                      refine g0_53 Γ Ξ dX0_pool_157 ?_
                      refine A_iload Γ dX0_pool_160 4 rfl ?_
                      refine A_iconst (v := 0) Γ dX0_pool_162 (by decide) ?_
                      refine A_aload_n Γ dX0_pool_163 1 rfl ?_
                      refine g0_5 Γ Ξ dX0_pool_164 ?_
                      refine A_iload_n Γ dX0_pool_167 3 rfl ?_
                      replace eL25 := b1 eL25
                      obtain ⟨k57, e58, eL25⟩ := eL25
                      refine A_rowsD Γ Ξ e58 dX0_pool_168 ?_
                      refine A_iload Γ dX0_pool_169 4 rfl ?_
                      replace eL25 := b1 eL25
                      obtain ⟨v59, e60, eL25⟩ := eL25
                      refine A_aldD Γ Ξ (kInt_rowD e58) rfl e60 dX0_pool_171 ?_
                      refine A_aload_n Γ dX0_pool_172 1 rfl ?_
                      refine g0_5 Γ Ξ dX0_pool_173 ?_
                      refine A_iload_n Γ dX0_pool_176 2 rfl ?_
                      replace eL25 := b1 eL25
                      obtain ⟨k61, e62, eL25⟩ := eL25
                      refine A_rowsD Γ Ξ e62 dX0_pool_177 ?_
                      refine A_iload Γ dX0_pool_178 4 rfl ?_
                      replace eL25 := b1 eL25
                      obtain ⟨v63, e64, eL25⟩ := eL25
                      refine A_aldD Γ Ξ (kInt_rowD e62) rfl e64 dX0_pool_180 ?_
                      refine A_isub Γ dX0_pool_181 ?_
                      replace eL25 := b1 eL25
                      obtain ⟨v66, e65, eL25⟩ := eL25
                      refine kX0_J8max Γ (kpX Ξ) hRm (by decide) (by decide) e65 (Nat.le_of_ble_eq_true rfl) dX0_pool_182 ?_
                      replace eL25 := b1 eL25
                      obtain ⟨σ67, e68, eL25⟩ := eL25
                      refine w0_53 Γ Ξ e68 dX0_pool_185 ?_
                      refine A_iinc (v := x28 + 1) (lv' := [(4, .int (x28 + 1)), (3, .int (x27 &&& x38)), (0, .ref (xo X)), (1, .int a1), (2, .int a2)]) Γ dX0_pool_186 4 rfl rfl (by decide) rfl ?_
                      refine A_goto (t := 75) Γ dX0_pool_189 (by decide) ?_
                      exact A_sub [2, 3, 4, 1, 0] rfl (ihL25 _ _ _ (lpc3 eL25 hqL25))
                    refine A_if_eq (t := 123) Γ dX0_pool_98 (by decide) (fun c => ?_) (fun c => ?_)
                    · replace eJ37 := it_t c eJ37
                      refine A_iconst (v := 0) Γ dX0_pool_123 (by decide) ?_
                      obtain rfl := inj1 eJ37
                      exact A_sub [0, 1, 2, 4] rfl hJJ37
                    · replace eJ37 := it_f c eJ37
                      refine A_aload_n Γ dX0_pool_101 0 rfl ?_
                      refine g0_5 Γ Ξ dX0_pool_102 ?_
                      refine A_iload_n Γ dX0_pool_105 2 rfl ?_
                      replace eJ37 := b1 eJ37
                      obtain ⟨k39, e40, eJ37⟩ := eJ37
                      refine A_rowsD Γ Ξ e40 dX0_pool_106 ?_
                      refine A_iload Γ dX0_pool_107 4 rfl ?_
                      replace eJ37 := b1 eJ37
                      obtain ⟨v41, e42, eJ37⟩ := eJ37
                      refine A_aldD Γ Ξ (kInt_rowD e40) rfl e42 dX0_pool_109 ?_
                      refine A_iconst (v := 0) Γ dX0_pool_110 (by decide) ?_
                      refine A_bipush (v := 30) Γ dX0_pool_111 (by decide) ?_
                      replace eJ37 := b1 eJ37
                      obtain ⟨v44, e43, eJ37⟩ := eJ37
                      refine kX0_X0in Γ (kpX Ξ) hRm (by decide) (by decide) e43 (Nat.le_of_ble_eq_true rfl) dX0_pool_113 ?_
                      refine A_if_eq (t := 123) Γ dX0_pool_116 (by decide) (fun c => ?_) (fun c => ?_)
                      · replace eJ37 := it_t c eJ37
                        refine A_iconst (v := 0) Γ dX0_pool_123 (by decide) ?_
                        obtain rfl := inj1 eJ37
                        exact A_sub [0, 1, 2, 4] rfl hJJ37
                      · replace eJ37 := it_f c eJ37
                        refine A_iconst (v := 1) Γ dX0_pool_119 (by decide) ?_
                        refine A_goto (t := 124) Γ dX0_pool_120 (by decide) ?_
                        obtain rfl := inj1 eJ37
                        exact A_sub [0, 1, 2, 4] rfl hJJ37
              exact A_sub [2, 3, 4, 1, 0] rfl (hLL25 _ _ _ _ eLL25)
            · replace h := it_f c h
              refine A_aload_n Γ dX0_pool_64 0 rfl ?_
              refine A_iconst (v := 5) Γ dX0_pool_65 (by decide) ?_
              replace h := b2 h
              obtain ⟨v118, σ119, e117, h⟩ := h
              refine kX0_X0found Γ Ξ hRm (by decide) (by decide) e117 (Nat.le_of_ble_eq_true rfl) dX0_pool_66 ?_
              obtain ⟨rfl, rfl⟩ := inj2 h
              exact hret _ _ dX0_pool_69
        · replace h := it_f cn13 h
          refine A_aload_n Γ dX0_pool_34 0 rfl ?_
          refine A_iconst (v := 1) Γ dX0_pool_35 (by decide) ?_
          replace h := b2 h
          obtain ⟨v121, σ122, e120, h⟩ := h
          refine kX0_X0found Γ Ξ hRm (by decide) (by decide) e120 (Nat.le_of_ble_eq_true rfl) dX0_pool_36 ?_
          obtain ⟨rfl, rfl⟩ := inj2 h
          exact hret _ _ dX0_pool_39
    · replace h := it_t c h
      refine A_iconst (v := (-1)) Γ dX0_pool_14 (by decide) ?_
      obtain ⟨rfl, rfl⟩ := inj2 h
      exact hret _ _ dX0_pool_15
theorem mtX0_pool (l : Launch) (X : Xw) {σ σ' : St} {a1 : Int32} {a2 : Int32} {r : Int32} (h : c_pool σ a1 a2 = some (r, σ')) : MetZ 0 l X yX0_pool cX0_pool 8 (some .int) 3 74 [.ref (xo X), .int a1, .int a2] σ (some (.int r)) σ' := MetZ.ofAt (by decide) (Nat.le_of_ble_eq_true rfl) (fun G _ Γ Ξ hR hret => wkX0_pool Γ Ξ hR h hret)

set_option maxHeartbeats 4000000 in
set_option maxRecDepth 100000 in
theorem wkX0_rentCost {G : Gx} {X : Xw} {σ : St} {a1 : Int32} {a2 : Int32} {a3 : Int32} {a4 : Int32} {a5 : Int32} {a6 : Int32} {a7 : Int32} (Γ : Ok G RX0 cX0_rentCost 8) (Ξ : OkX 0 G X) (hRm : Rm G 1 21) {r : Int32} (h : c_rentCost σ a1 a2 a3 a4 a5 a6 a7 = some r) (hret : ∀ (pc : Nat) (lv : List (Nat × Value)), retIs cX0_rentCost (some .int) (some (.int r)) pc → At G 8 σ lv [.int r] pc) : At G 8 σ [(0, .ref (xo X)), (1, .int a1), (2, .int a2), (3, .int a3), (4, .int a4), (5, .int a5), (6, .int a6), (7, .int a7)] [] 0 := by
  rw [c_rentCost] at h
  refine A_iload Γ dX0_rentCost_0 5 rfl ?_
  refine A_iload_n Γ dX0_rentCost_2 3 rfl ?_
  refine A_imul Γ dX0_rentCost_3 ?_
  refine A_iload Γ dX0_rentCost_4 6 rfl ?_
  refine A_iconst (v := 0) Γ dX0_rentCost_6 (by decide) ?_
  refine A_iload_n Γ dX0_rentCost_7 3 rfl ?_
  refine A_iload_n Γ dX0_rentCost_8 2 rfl ?_
  refine A_isub Γ dX0_rentCost_9 ?_
  replace h := b1 h
  obtain ⟨v2, e1, h⟩ := h
  refine kX0_J8max Γ (kpX Ξ) hRm (by decide) (by decide) e1 (Nat.le_of_ble_eq_true rfl) dX0_rentCost_10 ?_
  refine A_imul Γ dX0_rentCost_13 ?_
  refine A_iadd Γ dX0_rentCost_14 ?_
  refine A_iload Γ dX0_rentCost_15 7 rfl ?_
  refine A_iconst (v := 0) Γ dX0_rentCost_17 (by decide) ?_
  refine A_iload Γ dX0_rentCost_18 4 rfl ?_
  refine A_iload_n Γ dX0_rentCost_20 3 rfl ?_
  refine A_isub Γ dX0_rentCost_21 ?_
  replace h := b1 h
  obtain ⟨v4, e3, h⟩ := h
  refine kX0_J8max Γ (kpX Ξ) hRm (by decide) (by decide) e3 (Nat.le_of_ble_eq_true rfl) dX0_rentCost_22 ?_
  refine A_imul Γ dX0_rentCost_25 ?_
  refine A_iadd Γ dX0_rentCost_26 ?_
  refine A_aload_n Γ dX0_rentCost_27 0 rfl ?_
  refine g0_60 Γ Ξ dX0_rentCost_28 ?_
  refine A_bipush (v := 10) Γ dX0_rentCost_31 (by decide) ?_
  refine A_iload_n Γ dX0_rentCost_33 1 rfl ?_
  refine A_iconst (v := 1) Γ dX0_rentCost_34 (by decide) ?_
  refine A_iadd Γ dX0_rentCost_35 ?_
  refine A_imul Γ dX0_rentCost_36 ?_
  refine A_iload_n Γ dX0_rentCost_37 3 rfl ?_
  refine A_iadd Γ dX0_rentCost_38 ?_
  replace h := b1 h
  obtain ⟨v5, e6, h⟩ := h
  refine r0_60 Γ Ξ e6 dX0_rentCost_39 ?_
  refine A_iadd Γ dX0_rentCost_40 ?_
  obtain rfl := inj1 h
  exact hret _ _ dX0_rentCost_41
theorem mtX0_rentCost (l : Launch) (X : Xw) {σ : St} {a1 : Int32} {a2 : Int32} {a3 : Int32} {a4 : Int32} {a5 : Int32} {a6 : Int32} {a7 : Int32} {r : Int32} (h : c_rentCost σ a1 a2 a3 a4 a5 a6 a7 = some r) : MetZ 0 l X yX0_rentCost cX0_rentCost 8 (some .int) 1 21 [.ref (xo X), .int a1, .int a2, .int a3, .int a4, .int a5, .int a6, .int a7] σ (some (.int r)) σ := MetZ.ofAt (by decide) (Nat.le_of_ble_eq_true rfl) (fun G _ Γ Ξ hR hret => wkX0_rentCost Γ Ξ hR h hret)
theorem kX0_X0rentCost {G : Gx} {X : Xw} {cc : ByteArray} {nL pc F LO : Nat} {σ : St} {lv : List (Nat × Value)} {st : List Value} (Γ : Ok G RX0 cc nL) (Ξ : OkX 0 G X) {a1 : Int32} {a2 : Int32} {a3 : Int32} {a4 : Int32} {a5 : Int32} {a6 : Int32} {a7 : Int32} {r : Int32} (hRm : Rm G F LO) (hf : 1 + 1 ≤ F) (hlo : 8 + (8 + 11) + 21 ≤ LO) (h : c_rentCost σ a1 a2 a3 a4 a5 a6 a7 = some r) (hW : (st.map fun v => v.category).sum ≤ 8) (d : decode cc pc = .ok (.invokevirtual 437, 3)) (kk : At G nL σ lv (.int r :: st) (pc + 3)) : At G nL σ lv (.int a7 :: .int a6 :: .int a5 :: .int a4 :: .int a3 :: .int a2 :: .int a1 :: .ref (xo X) :: st) pc := A_callV Γ Ξ rfl rfl (mtX0_rentCost (gl G) X h) (lw_V q1023 q1025 qs27 q63 q1026) (n := 7) (by decide +kernel) (rm_ok hRm hf hlo) (rm_k hRm) rfl rfl hW d kk
set_option maxHeartbeats 4000000 in
set_option maxRecDepth 100000 in
theorem wkX0_rent {G : Gx} {X : Xw} {σ σ' : St} {a1 : Int32} {a2 : Int32} {a3 : Int32} {a4 : Int32} {a5 : Int32} (Γ : Ok G RX0 cX0_rent 14) (Ξ : OkX 0 G X) (hRm : Rm G 2 48) {r : Int32} (h : c_rent σ a1 a2 a3 a4 a5 = some (r, σ')) (hret : ∀ (pc : Nat) (lv : List (Nat × Value)), retIs cX0_rent (some .int) (some (.int r)) pc → At G 14 σ' lv [.int r] pc) : At G 14 σ [(0, .ref (xo X)), (1, .int a1), (2, .int a2), (3, .int a3), (4, .int a4), (5, .int a5)] [] 0 := by
  rw [c_rent] at h
  refine A_iload_n Γ dX0_rent_0 1 rfl ?_
  replace h := b1 h
  obtain ⟨v2, e1, h⟩ := h
  refine kX0_X0isRow Γ (kpX Ξ) hRm (by decide) (by decide) e1 (Nat.le_of_ble_eq_true rfl) dX0_rent_1 ?_
  refine A_if_eq (t := 52) Γ dX0_rent_4 (by decide) (fun c => ?_) (fun c => ?_)
  · replace h := it_t c h
    refine A_iconst (v := (-1)) Γ dX0_rent_52 (by decide) ?_
    obtain ⟨rfl, rfl⟩ := inj2 h
    exact hret _ _ dX0_rent_53
  · replace h := it_f c h
    refine A_iload_n Γ dX0_rent_7 2 rfl ?_
    refine A_iconst (v := 0) Γ dX0_rent_8 (by decide) ?_
    refine A_bipush (v := 9) Γ dX0_rent_9 (by decide) ?_
    replace h := b1 h
    obtain ⟨v4, e3, h⟩ := h
    refine kX0_X0in Γ (kpX Ξ) hRm (by decide) (by decide) e3 (Nat.le_of_ble_eq_true rfl) dX0_rent_11 ?_
    refine A_if_eq (t := 52) Γ dX0_rent_14 (by decide) (fun c => ?_) (fun c => ?_)
    · replace h := it_t c h
      refine A_iconst (v := (-1)) Γ dX0_rent_52 (by decide) ?_
      obtain ⟨rfl, rfl⟩ := inj2 h
      exact hret _ _ dX0_rent_53
    · replace h := it_f c h
      refine A_iload_n Γ dX0_rent_17 3 rfl ?_
      refine A_iconst (v := 0) Γ dX0_rent_18 (by decide) ?_
      refine A_sipush (v := 1000) Γ dX0_rent_19 (by decide) ?_
      replace h := b1 h
      obtain ⟨v6, e5, h⟩ := h
      refine kX0_X0in Γ (kpX Ξ) hRm (by decide) (by decide) e5 (Nat.le_of_ble_eq_true rfl) dX0_rent_22 ?_
      refine A_if_eq (t := 52) Γ dX0_rent_25 (by decide) (fun c => ?_) (fun c => ?_)
      · replace h := it_t c h
        refine A_iconst (v := (-1)) Γ dX0_rent_52 (by decide) ?_
        obtain ⟨rfl, rfl⟩ := inj2 h
        exact hret _ _ dX0_rent_53
      · replace h := it_f c h
        refine A_iload Γ dX0_rent_28 4 rfl ?_
        refine A_iconst (v := 0) Γ dX0_rent_30 (by decide) ?_
        refine A_sipush (v := 1000) Γ dX0_rent_31 (by decide) ?_
        replace h := b1 h
        obtain ⟨v8, e7, h⟩ := h
        refine kX0_X0in Γ (kpX Ξ) hRm (by decide) (by decide) e7 (Nat.le_of_ble_eq_true rfl) dX0_rent_34 ?_
        refine A_if_eq (t := 52) Γ dX0_rent_37 (by decide) (fun c => ?_) (fun c => ?_)
        · replace h := it_t c h
          refine A_iconst (v := (-1)) Γ dX0_rent_52 (by decide) ?_
          obtain ⟨rfl, rfl⟩ := inj2 h
          exact hret _ _ dX0_rent_53
        · replace h := it_f c h
          refine A_iload Γ dX0_rent_40 5 rfl ?_
          refine A_iconst (v := 0) Γ dX0_rent_42 (by decide) ?_
          refine A_sipush (v := 1000) Γ dX0_rent_43 (by decide) ?_
          replace h := b1 h
          obtain ⟨v10, e9, h⟩ := h
          refine kX0_X0in Γ (kpX Ξ) hRm (by decide) (by decide) e9 (Nat.le_of_ble_eq_true rfl) dX0_rent_46 ?_
          refine A_if_ne (t := 54) Γ dX0_rent_49 (by decide) (fun c => ?_) (fun c => ?_)
          · replace h := it_f c h
            refine A_aload_n Γ dX0_rent_54 0 rfl ?_
            refine g0_5 Γ Ξ dX0_rent_55 ?_
            refine A_iload_n Γ dX0_rent_58 1 rfl ?_
            replace h := b1 h
            obtain ⟨k11, e12, h⟩ := h
            refine A_rows Γ Ξ e12 dX0_rent_59 ?_
            refine A_astoreO (lv' := [(0, .ref (xo X)), (1, .int a1), (2, .int a2), (3, .int a3), (4, .int a4), (5, .int a5)]) Γ dX0_rent_60 (by decide) (fun _ => rfl) ?_
            refine A_aloadO Γ dX0_rent_62 0 rfl ?_
            refine A_ifnonnull (t := 73) Γ dX0_rent_64 (by decide) (fun cn13 => ?_) (fun cn13 => ?_)
            · replace h := it_t cn13 h
              refine A_aloadO Γ dX0_rent_73 0 rfl ?_
              replace h := b1 h
              obtain ⟨n14, e15, h⟩ := h
              refine A_alenD Γ Ξ (Or.inl (kInt_row e12)) (rk_t cn13) e15 dX0_rent_75 ?_
              refine A_if_ne (t := 85) Γ dX0_rent_76 (by decide) (fun c => ?_) (fun c => ?_)
              · replace h := it_f c h
                refine A_iconst (v := 1) Γ dX0_rent_85 (by decide) ?_
                refine A_istore (lv' := [(7, .int 1), (6, va_rf (rk X σ (100 + k11))), (0, .ref (xo X)), (1, .int a1), (2, .int a2), (3, .int a3), (4, .int a4), (5, .int a5)]) Γ dX0_rent_86 (by decide) (by rcases rf_or X σ (100 + k11) with h | h <;> rw [h] <;> rfl) ?_
                refine A_iconst (v := 0) Γ dX0_rent_88 (by decide) ?_
                refine A_istore (lv' := [(8, .int 0), (7, .int 1), (6, va_rf (rk X σ (100 + k11))), (0, .ref (xo X)), (1, .int a1), (2, .int a2), (3, .int a3), (4, .int a4), (5, .int a5)]) Γ dX0_rent_89 (by decide) rfl ?_
                replace h := b1 h
                obtain ⟨x19, eLL16, h⟩ := h
                have hXL16 : At G 14 σ [(0, .ref (xo X)), (2, .int a2), (3, .int a3), (4, .int a4), (5, .int a5), (6, va_rf (rk X σ (100 + k11))), (7, .int x19)] [] 121 := by
                  refine A_iload Γ dX0_rent_121 6 rfl ?_
                  refine A_if_ne (t := 132) Γ dX0_rent_123 (by decide) (fun c => ?_) (fun c => ?_)
                  · replace h := it_f c h
                    refine A_aloadO Γ dX0_rent_132 5 rfl ?_
                    replace h := b1 h
                    obtain ⟨n26, e27, h⟩ := h
                    refine A_alenD Γ Ξ (Or.inl (kInt_row e12)) (rk_t cn13) e27 dX0_rent_134 ?_
                    refine A_istore (lv' := [(8, .int (nI n26)), (0, .ref (xo X)), (2, .int a2), (3, .int a3), (4, .int a4), (5, .int a5), (6, va_rf (rk X σ (100 + k11))), (7, .int x19)]) Γ dX0_rent_135 (by decide) rfl ?_
                    refine A_iconst (v := 0) Γ dX0_rent_137 (by decide) ?_
                    refine A_istore (lv' := [(9, .int 0), (8, .int (nI n26)), (0, .ref (xo X)), (2, .int a2), (3, .int a3), (4, .int a4), (5, .int a5), (6, va_rf (rk X σ (100 + k11))), (7, .int x19)]) Γ dX0_rent_138 (by decide) rfl ?_
                    replace h := b1 h
                    obtain ⟨σ31, eLL28, h⟩ := h
                    have hXL28 : At G 14 σ31 [(0, .ref (xo X)), (2, .int a2), (3, .int a3), (4, .int a4), (5, .int a5), (6, va_rf (rk X σ (100 + k11))), (8, .int (nI n26))] [] 167 := by
                      refine A_iload Γ dX0_rent_167 6 rfl ?_
                      refine A_iconst (v := 1) Γ dX0_rent_169 (by decide) ?_
                      refine A_isub Γ dX0_rent_170 ?_
                      refine A_istore (lv' := [(9, .int ((nI n26) - 1)), (0, .ref (xo X)), (2, .int a2), (3, .int a3), (4, .int a4), (5, .int a5), (6, va_rf (rk X σ (100 + k11))), (8, .int (nI n26))]) Γ dX0_rent_171 (by decide) rfl ?_
                      replace h := b1 h
                      obtain ⟨σ37, eLL34, h⟩ := h
                      have hXL34 : At G 14 σ37 [(0, .ref (xo X)), (2, .int a2), (3, .int a3), (4, .int a4), (5, .int a5), (6, va_rf (rk X σ (100 + k11))), (8, .int (nI n26))] [] 282 := by
                        refine A_aload_n Γ dX0_rent_282 0 rfl ?_
                        refine A_iload Γ dX0_rent_283 6 rfl ?_
                        refine p0_58 Γ Ξ dX0_rent_285 ?_
                        refine A_iconst (v := 0) Γ dX0_rent_288 (by decide) ?_
                        refine A_istore (lv' := [(9, .int 0), (0, .ref (xo X)), (2, .int a2), (3, .int a3), (4, .int a4), (5, .int a5), (6, va_rf (rk X σ (100 + k11))), (8, .int (nI n26))]) Γ dX0_rent_289 (by decide) rfl ?_
                        refine A_iconst (v := 0) Γ dX0_rent_291 (by decide) ?_
                        refine A_istore (lv' := [(10, .int 0), (9, .int 0), (0, .ref (xo X)), (2, .int a2), (3, .int a3), (4, .int a4), (5, .int a5), (6, va_rf (rk X σ (100 + k11))), (8, .int (nI n26))]) Γ dX0_rent_292 (by decide) rfl ?_
                        replace h := b1 h
                        obtain ⟨σ58, eLL54, h⟩ := h
                        have hXL54 : At G 14 σ58 [(0, .ref (xo X))] [] 367 := by
                          refine A_aload_n Γ dX0_rent_367 0 rfl ?_
                          refine g0_60 Γ Ξ dX0_rent_368 ?_
                          refine A_iconst (v := 0) Γ dX0_rent_371 (by decide) ?_
                          replace h := b1 h
                          obtain ⟨v70, e71, h⟩ := h
                          refine r0_60 Γ Ξ e71 dX0_rent_372 ?_
                          obtain ⟨rfl, rfl⟩ := inj2 h
                          exact hret _ _ dX0_rent_373
                        replace eLL54 := lq3_ex eLL54
                        obtain ⟨nL54, eLL54⟩ := eLL54
                        have hLL54 : ∀ (nL54 : Nat) (σ55 : St) (x56 : Int32) (x57 : Int32), lpf3 (c_rent_L54 a2 a3 a4 a5 k11 n26) nL54 σ55 x56 x57 = some σ58 → At G 14 σ55 [(0, .ref (xo X)), (2, .int a2), (3, .int a3), (4, .int a4), (5, .int a5), (6, va_rf (rk X σ (100 + k11))), (8, .int (nI n26)), (9, .int x56), (10, .int x57)] [] 294 := by
                          intro nL54
                          induction nL54 with
                          | zero => intro σ55 x56 x57 eL54; exact (lpf3_0 eL54).elim
                          | succ nL54 ihL54 =>
                            intro σ55 x56 x57 eL54
                            replace eL54 := lpf3_s eL54
                            obtain ⟨qL54, eL54, hqL54⟩ := eL54
                            rw [c_rent_L54] at eL54
                            refine A_iload Γ dX0_rent_294 8 rfl ?_
                            refine A_iload Γ dX0_rent_296 6 rfl ?_
                            refine A_icmp_ge (t := 367) Γ dX0_rent_298 (by decide) (fun c => ?_) (fun c => ?_)
                            · replace eL54 := it_t c eL54
                              obtain rfl := pr1 (lpx3 eL54 hqL54)
                              exact A_sub [0] rfl hXL54
                            · replace eL54 := it_f c eL54
                              refine A_iconst (v := 0) Γ dX0_rent_301 (by decide) ?_
                              refine A_istore (lv' := [(11, .int 0), (0, .ref (xo X)), (2, .int a2), (3, .int a3), (4, .int a4), (5, .int a5), (6, va_rf (rk X σ (100 + k11))), (8, .int (nI n26)), (9, .int x56), (10, .int x57)]) Γ dX0_rent_302 (by decide) rfl ?_
                              replace eL54 := b1 eL54
                              obtain ⟨x61, eLL59, eL54⟩ := eL54
                              have hXL59 : At G 14 σ55 [(0, .ref (xo X)), (2, .int a2), (3, .int a3), (4, .int a4), (5, .int a5), (6, va_rf (rk X σ (100 + k11))), (8, .int (nI n26)), (10, .int x57), (11, .int x61)] [] 348 := by
                                refine A_aload_n Γ dX0_rent_348 0 rfl ?_
                                refine g0_59 Γ Ξ dX0_rent_349 ?_
                                refine A_iload Γ dX0_rent_352 7 rfl ?_
                                refine A_iload Γ dX0_rent_354 8 rfl ?_
                                replace eL54 := b1 eL54
                                obtain ⟨σ68, e69, eL54⟩ := eL54
                                refine w0_59 Γ Ξ e69 dX0_rent_356 ?_
                                refine A_iload Γ dX0_rent_357 8 rfl ?_
                                refine A_istore (lv' := [(9, .int x61), (0, .ref (xo X)), (2, .int a2), (3, .int a3), (4, .int a4), (5, .int a5), (6, va_rf (rk X σ (100 + k11))), (8, .int (nI n26)), (10, .int x57), (11, .int x61)]) Γ dX0_rent_359 (by decide) rfl ?_
                                refine A_iinc (v := x57 + 1) (lv' := [(10, .int (x57 + 1)), (9, .int x61), (0, .ref (xo X)), (2, .int a2), (3, .int a3), (4, .int a4), (5, .int a5), (6, va_rf (rk X σ (100 + k11))), (8, .int (nI n26)), (11, .int x61)]) Γ dX0_rent_361 8 rfl rfl (by decide) rfl ?_
                                refine A_goto (t := 294) Γ dX0_rent_364 (by decide) ?_
                                exact A_sub [2, 3, 4, 5, 6, 7, 8, 1, 0] rfl (ihL54 _ _ _ (lpc3 eL54 hqL54))
                              replace eLL59 := lq1_ex eLL59
                              obtain ⟨nL59, eLL59⟩ := eLL59
                              have hLL59 : ∀ (nL59 : Nat) (x60 : Int32), lpf1 (c_rent_L59 a2 a3 a4 a5 k11 σ55 x56 x57) nL59 x60 = some x61 → At G 14 σ55 [(0, .ref (xo X)), (2, .int a2), (3, .int a3), (4, .int a4), (5, .int a5), (6, va_rf (rk X σ (100 + k11))), (8, .int (nI n26)), (9, .int x56), (10, .int x57), (11, .int x60)] [] 304 := by
                                intro nL59
                                induction nL59 with
                                | zero => intro x60 eL59; exact (lpf1_0 eL59).elim
                                | succ nL59 ihL59 =>
                                  intro x60 eL59
                                  replace eL59 := lpf1_s eL59
                                  obtain ⟨qL59, eL59, hqL59⟩ := eL59
                                  rw [c_rent_L59] at eL59
                                  refine A_aload_n Γ dX0_rent_304 0 rfl ?_
                                  refine A_iload Γ dX0_rent_305 8 rfl ?_
                                  refine A_iload Γ dX0_rent_307 7 rfl ?_
                                  refine A_iload Γ dX0_rent_309 9 rfl ?_
                                  refine A_aloadO Γ dX0_rent_311 5 rfl ?_
                                  refine A_iload Γ dX0_rent_313 8 rfl ?_
                                  replace eL59 := b1 eL59
                                  obtain ⟨v62, e63, eL59⟩ := eL59
                                  refine A_aldD Γ Ξ (kInt_row e12) (rk_t cn13) e63 dX0_rent_315 ?_
                                  refine A_iload_n Γ dX0_rent_316 1 rfl ?_
                                  refine A_isub Γ dX0_rent_317 ?_
                                  refine A_iload_n Γ dX0_rent_318 2 rfl ?_
                                  refine A_iload Γ dX0_rent_319 3 rfl ?_
                                  refine A_iload Γ dX0_rent_321 4 rfl ?_
                                  replace eL59 := b1 eL59
                                  obtain ⟨v65, e64, eL59⟩ := eL59
                                  refine kX0_X0rentCost Γ Ξ hRm (by decide) (by decide) e64 (Nat.le_of_ble_eq_true rfl) dX0_rent_323 ?_
                                  refine A_aload_n Γ dX0_rent_326 0 rfl ?_
                                  refine g0_60 Γ Ξ dX0_rent_327 ?_
                                  refine A_bipush (v := 10) Γ dX0_rent_330 (by decide) ?_
                                  refine A_iload Γ dX0_rent_332 8 rfl ?_
                                  refine A_imul Γ dX0_rent_334 ?_
                                  refine A_iload Γ dX0_rent_335 7 rfl ?_
                                  refine A_iadd Γ dX0_rent_337 ?_
                                  replace eL59 := b1 eL59
                                  obtain ⟨v66, e67, eL59⟩ := eL59
                                  refine r0_60 Γ Ξ e67 dX0_rent_338 ?_
                                  refine A_icmp_eq (t := 348) Γ dX0_rent_339 (by decide) (fun c => ?_) (fun c => ?_)
                                  · replace eL59 := it_t c eL59
                                    obtain rfl := pr1 (lpx1 eL59 hqL59)
                                    exact A_sub [0, 1, 2, 3, 4, 5, 6, 8, 9] rfl hXL59
                                  · replace eL59 := it_f c eL59
                                    refine A_iinc (v := x60 + 1) (lv' := [(11, .int (x60 + 1)), (0, .ref (xo X)), (2, .int a2), (3, .int a3), (4, .int a4), (5, .int a5), (6, va_rf (rk X σ (100 + k11))), (8, .int (nI n26)), (9, .int x56), (10, .int x57)]) Γ dX0_rent_342 9 rfl rfl (by decide) rfl ?_
                                    refine A_goto (t := 304) Γ dX0_rent_345 (by decide) ?_
                                    exact A_sub [1, 2, 3, 4, 5, 6, 7, 8, 9, 0] rfl (ihL59 _ (lpc1 eL59 hqL59))
                              exact A_sub [1, 2, 3, 4, 5, 6, 7, 8, 9, 0] rfl (hLL59 _ _ eLL59)
                        exact A_sub [2, 3, 4, 5, 6, 7, 8, 1, 0] rfl (hLL54 _ _ _ _ eLL54)
                      replace eLL34 := lq2_ex eLL34
                      obtain ⟨nL34, eLL34⟩ := eLL34
                      have hLL34 : ∀ (nL34 : Nat) (σ35 : St) (x36 : Int32), lpf2 (c_rent_L34 a2 a3 a4 a5 k11) nL34 σ35 x36 = some σ37 → At G 14 σ35 [(0, .ref (xo X)), (2, .int a2), (3, .int a3), (4, .int a4), (5, .int a5), (6, va_rf (rk X σ (100 + k11))), (8, .int (nI n26)), (9, .int x36)] [] 173 := by
                        intro nL34
                        induction nL34 with
                        | zero => intro σ35 x36 eL34; exact (lpf2_0 eL34).elim
                        | succ nL34 ihL34 =>
                          intro σ35 x36 eL34
                          replace eL34 := lpf2_s eL34
                          obtain ⟨qL34, eL34, hqL34⟩ := eL34
                          rw [c_rent_L34] at eL34
                          refine A_iload Γ dX0_rent_173 7 rfl ?_
                          refine A_if_lt (t := 282) Γ dX0_rent_175 (by decide) (fun c => ?_) (fun c => ?_)
                          · replace eL34 := it_t c eL34
                            obtain rfl := pr1 (lpx2 eL34 hqL34)
                            exact A_sub [0, 1, 2, 3, 4, 5, 6] rfl hXL34
                          · replace eL34 := it_f c eL34
                            refine A_iconst (v := 0) Γ dX0_rent_178 (by decide) ?_
                            refine A_istore (lv' := [(10, .int 0), (0, .ref (xo X)), (2, .int a2), (3, .int a3), (4, .int a4), (5, .int a5), (6, va_rf (rk X σ (100 + k11))), (8, .int (nI n26)), (9, .int x36)]) Γ dX0_rent_179 (by decide) rfl ?_
                            replace eL34 := b1 eL34
                            obtain ⟨σ41, eLL38, eL34⟩ := eL34
                            have hXL38 : At G 14 σ41 [(0, .ref (xo X)), (2, .int a2), (3, .int a3), (4, .int a4), (5, .int a5), (6, va_rf (rk X σ (100 + k11))), (8, .int (nI n26)), (9, .int x36)] [] 276 := by
                              refine A_iinc (v := x36 + (-1)) (lv' := [(9, .int (x36 + (-1))), (0, .ref (xo X)), (2, .int a2), (3, .int a3), (4, .int a4), (5, .int a5), (6, va_rf (rk X σ (100 + k11))), (8, .int (nI n26))]) Γ dX0_rent_276 7 rfl rfl (by decide) rfl ?_
                              refine A_goto (t := 173) Γ dX0_rent_279 (by decide) ?_
                              exact A_sub [1, 2, 3, 4, 5, 6, 7, 0] rfl (ihL34 _ _ (lpc2 eL34 hqL34))
                            replace eLL38 := lq2_ex eLL38
                            obtain ⟨nL38, eLL38⟩ := eLL38
                            have hLL38 : ∀ (nL38 : Nat) (σ39 : St) (x40 : Int32), lpf2 (c_rent_L38 a2 a3 a4 a5 k11 x36) nL38 σ39 x40 = some σ41 → At G 14 σ39 [(0, .ref (xo X)), (2, .int a2), (3, .int a3), (4, .int a4), (5, .int a5), (6, va_rf (rk X σ (100 + k11))), (8, .int (nI n26)), (9, .int x36), (10, .int x40)] [] 181 := by
                              intro nL38
                              induction nL38 with
                              | zero => intro σ39 x40 eL38; exact (lpf2_0 eL38).elim
                              | succ nL38 ihL38 =>
                                intro σ39 x40 eL38
                                replace eL38 := lpf2_s eL38
                                obtain ⟨qL38, eL38, hqL38⟩ := eL38
                                rw [c_rent_L38] at eL38
                                refine A_iload Γ dX0_rent_181 8 rfl ?_
                                refine A_bipush (v := 10) Γ dX0_rent_183 (by decide) ?_
                                refine A_icmp_ge (t := 276) Γ dX0_rent_185 (by decide) (fun c => ?_) (fun c => ?_)
                                · replace eL38 := it_t c eL38
                                  obtain rfl := pr1 (lpx2 eL38 hqL38)
                                  exact A_sub [0, 1, 2, 3, 4, 5, 6, 7] rfl hXL38
                                · replace eL38 := it_f c eL38
                                  refine A_bipush (v := (-9)) Γ dX0_rent_188 (by decide) ?_
                                  refine A_istore (lv' := [(11, .int (-9)), (0, .ref (xo X)), (2, .int a2), (3, .int a3), (4, .int a4), (5, .int a5), (6, va_rf (rk X σ (100 + k11))), (8, .int (nI n26)), (9, .int x36), (10, .int x40)]) Γ dX0_rent_190 (by decide) rfl ?_
                                  refine A_iconst (v := 0) Γ dX0_rent_192 (by decide) ?_
                                  refine A_istore (lv' := [(12, .int 0), (11, .int (-9)), (0, .ref (xo X)), (2, .int a2), (3, .int a3), (4, .int a4), (5, .int a5), (6, va_rf (rk X σ (100 + k11))), (8, .int (nI n26)), (9, .int x36), (10, .int x40)]) Γ dX0_rent_193 (by decide) rfl ?_
                                  replace eL38 := b1 eL38
                                  obtain ⟨x45, eLL42, eL38⟩ := eL38
                                  have hXL42 : At G 14 σ39 [(0, .ref (xo X)), (2, .int a2), (3, .int a3), (4, .int a4), (5, .int a5), (6, va_rf (rk X σ (100 + k11))), (8, .int (nI n26)), (9, .int x36), (10, .int x40), (11, .int x45)] [] 255 := by
                                    refine A_aload_n Γ dX0_rent_255 0 rfl ?_
                                    refine g0_60 Γ Ξ dX0_rent_256 ?_
                                    refine A_bipush (v := 10) Γ dX0_rent_259 (by decide) ?_
                                    refine A_iload Γ dX0_rent_261 7 rfl ?_
                                    refine A_imul Γ dX0_rent_263 ?_
                                    refine A_iload Γ dX0_rent_264 8 rfl ?_
                                    refine A_iadd Γ dX0_rent_266 ?_
                                    refine A_iload Γ dX0_rent_267 9 rfl ?_
                                    replace eL38 := b1 eL38
                                    obtain ⟨σ52, e53, eL38⟩ := eL38
                                    refine w0_60 Γ Ξ e53 dX0_rent_269 ?_
                                    refine A_iinc (v := x40 + 1) (lv' := [(10, .int (x40 + 1)), (0, .ref (xo X)), (2, .int a2), (3, .int a3), (4, .int a4), (5, .int a5), (6, va_rf (rk X σ (100 + k11))), (8, .int (nI n26)), (9, .int x36), (11, .int x45)]) Γ dX0_rent_270 8 rfl rfl (by decide) rfl ?_
                                    refine A_goto (t := 181) Γ dX0_rent_273 (by decide) ?_
                                    exact A_sub [1, 2, 3, 4, 5, 6, 7, 8, 0] rfl (ihL38 _ _ (lpc2 eL38 hqL38))
                                  replace eLL42 := lq2_ex eLL42
                                  obtain ⟨nL42, eLL42⟩ := eLL42
                                  have hLL42 : ∀ (nL42 : Nat) (x43 : Int32) (x44 : Int32), lpf2 (c_rent_L42 a2 a3 a4 a5 k11 x36 σ39 x40) nL42 x43 x44 = some x45 → At G 14 σ39 [(0, .ref (xo X)), (2, .int a2), (3, .int a3), (4, .int a4), (5, .int a5), (6, va_rf (rk X σ (100 + k11))), (8, .int (nI n26)), (9, .int x36), (10, .int x40), (11, .int x43), (12, .int x44)] [] 195 := by
                                    intro nL42
                                    induction nL42 with
                                    | zero => intro x43 x44 eL42; exact (lpf2_0 eL42).elim
                                    | succ nL42 ihL42 =>
                                      intro x43 x44 eL42
                                      replace eL42 := lpf2_s eL42
                                      obtain ⟨qL42, eL42, hqL42⟩ := eL42
                                      rw [c_rent_L42] at eL42
                                      refine A_iload Γ dX0_rent_195 10 rfl ?_
                                      refine A_bipush (v := 10) Γ dX0_rent_197 (by decide) ?_
                                      refine A_icmp_ge (t := 255) Γ dX0_rent_199 (by decide) (fun c => ?_) (fun c => ?_)
                                      · replace eL42 := it_t c eL42
                                        obtain rfl := pr1 (lpx2 eL42 hqL42)
                                        exact A_sub [0, 1, 2, 3, 4, 5, 6, 7, 8, 9] rfl hXL42
                                      · replace eL42 := it_f c eL42
                                        refine A_aload_n Γ dX0_rent_202 0 rfl ?_
                                        refine A_iload Γ dX0_rent_203 7 rfl ?_
                                        refine A_iload Γ dX0_rent_205 8 rfl ?_
                                        refine A_iload Γ dX0_rent_207 10 rfl ?_
                                        refine A_aloadO Γ dX0_rent_209 5 rfl ?_
                                        refine A_iload Γ dX0_rent_211 7 rfl ?_
                                        replace eL42 := b1 eL42
                                        obtain ⟨v46, e47, eL42⟩ := eL42
                                        refine A_aldD Γ Ξ (kInt_row e12) (rk_t cn13) e47 dX0_rent_213 ?_
                                        refine A_iload_n Γ dX0_rent_214 1 rfl ?_
                                        refine A_isub Γ dX0_rent_215 ?_
                                        refine A_iload_n Γ dX0_rent_216 2 rfl ?_
                                        refine A_iload Γ dX0_rent_217 3 rfl ?_
                                        refine A_iload Γ dX0_rent_219 4 rfl ?_
                                        replace eL42 := b1 eL42
                                        obtain ⟨v49, e48, eL42⟩ := eL42
                                        refine kX0_X0rentCost Γ Ξ hRm (by decide) (by decide) e48 (Nat.le_of_ble_eq_true rfl) dX0_rent_221 ?_
                                        refine A_istore (lv' := [(13, .int v49), (0, .ref (xo X)), (2, .int a2), (3, .int a3), (4, .int a4), (5, .int a5), (6, va_rf (rk X σ (100 + k11))), (8, .int (nI n26)), (9, .int x36), (10, .int x40), (11, .int x43), (12, .int x44)]) Γ dX0_rent_224 (by decide) rfl ?_
                                        refine A_iload Γ dX0_rent_226 10 rfl ?_
                                        refine A_bipush (v := (-9)) Γ dX0_rent_228 (by decide) ?_
                                        replace eL42 := b1 eL42
                                        obtain ⟨x51, eJ50, eL42⟩ := eL42
                                        have hJJ50 : At G 14 σ39 [(0, .ref (xo X)), (2, .int a2), (3, .int a3), (4, .int a4), (5, .int a5), (6, va_rf (rk X σ (100 + k11))), (8, .int (nI n26)), (9, .int x36), (10, .int x40), (12, .int x44)] [.int x51] 247 := by
                                          refine A_istore (lv' := [(11, .int x51), (0, .ref (xo X)), (2, .int a2), (3, .int a3), (4, .int a4), (5, .int a5), (6, va_rf (rk X σ (100 + k11))), (8, .int (nI n26)), (9, .int x36), (10, .int x40), (12, .int x44)]) Γ dX0_rent_247 (by decide) rfl ?_
                                          refine A_iinc (v := x44 + 1) (lv' := [(12, .int (x44 + 1)), (11, .int x51), (0, .ref (xo X)), (2, .int a2), (3, .int a3), (4, .int a4), (5, .int a5), (6, va_rf (rk X σ (100 + k11))), (8, .int (nI n26)), (9, .int x36), (10, .int x40)]) Γ dX0_rent_249 10 rfl rfl (by decide) rfl ?_
                                          refine A_goto (t := 195) Γ dX0_rent_252 (by decide) ?_
                                          exact A_sub [2, 3, 4, 5, 6, 7, 8, 9, 10, 1, 0] rfl (ihL42 _ _ (lpc2 eL42 hqL42))
                                        refine A_icmp_eq (t := 240) Γ dX0_rent_230 (by decide) (fun c => ?_) (fun c => ?_)
                                        · replace eJ50 := it_t c eJ50
                                          refine A_iload Γ dX0_rent_240 0 rfl ?_
                                          refine A_goto (t := 247) Γ dX0_rent_242 (by decide) ?_
                                          obtain rfl := inj1 eJ50
                                          exact A_sub [1, 2, 3, 4, 5, 6, 7, 8, 9, 11] rfl hJJ50
                                        · replace eJ50 := it_f c eJ50
                                          refine A_iload Γ dX0_rent_233 0 rfl ?_
                                          refine A_iload Γ dX0_rent_235 10 rfl ?_
                                          refine A_icmp_ge (t := 245) Γ dX0_rent_237 (by decide) (fun c => ?_) (fun c => ?_)
                                          · replace eJ50 := it_t c eJ50
                                            refine A_iload Γ dX0_rent_245 10 rfl ?_
                                            obtain rfl := inj1 eJ50
                                            exact A_sub [1, 2, 3, 4, 5, 6, 7, 8, 9, 11] rfl hJJ50
                                          · replace eJ50 := it_f c eJ50
                                            refine A_iload Γ dX0_rent_240 0 rfl ?_
                                            refine A_goto (t := 247) Γ dX0_rent_242 (by decide) ?_
                                            obtain rfl := inj1 eJ50
                                            exact A_sub [1, 2, 3, 4, 5, 6, 7, 8, 9, 11] rfl hJJ50
                                  exact A_sub [2, 3, 4, 5, 6, 7, 8, 9, 10, 1, 0] rfl (hLL42 _ _ _ eLL42)
                            exact A_sub [1, 2, 3, 4, 5, 6, 7, 8, 0] rfl (hLL38 _ _ _ eLL38)
                      exact A_sub [1, 2, 3, 4, 5, 6, 7, 0] rfl (hLL34 _ _ _ eLL34)
                    replace eLL28 := lq2_ex eLL28
                    obtain ⟨nL28, eLL28⟩ := eLL28
                    have hLL28 : ∀ (nL28 : Nat) (σ29 : St) (x30 : Int32), lpf2 (c_rent_L28 n26) nL28 σ29 x30 = some σ31 → At G 14 σ29 [(0, .ref (xo X)), (2, .int a2), (3, .int a3), (4, .int a4), (5, .int a5), (6, va_rf (rk X σ (100 + k11))), (8, .int (nI n26)), (9, .int x30)] [] 140 := by
                      intro nL28
                      induction nL28 with
                      | zero => intro σ29 x30 eL28; exact (lpf2_0 eL28).elim
                      | succ nL28 ihL28 =>
                        intro σ29 x30 eL28
                        replace eL28 := lpf2_s eL28
                        obtain ⟨qL28, eL28, hqL28⟩ := eL28
                        rw [c_rent_L28] at eL28
                        refine A_iload Γ dX0_rent_140 7 rfl ?_
                        refine A_bipush (v := 10) Γ dX0_rent_142 (by decide) ?_
                        refine A_icmp_ge (t := 167) Γ dX0_rent_144 (by decide) (fun c => ?_) (fun c => ?_)
                        · replace eL28 := it_t c eL28
                          obtain rfl := pr1 (lpx2 eL28 hqL28)
                          exact A_sub [0, 1, 2, 3, 4, 5, 6] rfl hXL28
                        · replace eL28 := it_f c eL28
                          refine A_aload_n Γ dX0_rent_147 0 rfl ?_
                          refine g0_60 Γ Ξ dX0_rent_148 ?_
                          refine A_bipush (v := 10) Γ dX0_rent_151 (by decide) ?_
                          refine A_iload Γ dX0_rent_153 6 rfl ?_
                          refine A_imul Γ dX0_rent_155 ?_
                          refine A_iload Γ dX0_rent_156 7 rfl ?_
                          refine A_iadd Γ dX0_rent_158 ?_
                          refine A_iconst (v := 0) Γ dX0_rent_159 (by decide) ?_
                          replace eL28 := b1 eL28
                          obtain ⟨σ32, e33, eL28⟩ := eL28
                          refine w0_60 Γ Ξ e33 dX0_rent_160 ?_
                          refine A_iinc (v := x30 + 1) (lv' := [(9, .int (x30 + 1)), (0, .ref (xo X)), (2, .int a2), (3, .int a3), (4, .int a4), (5, .int a5), (6, va_rf (rk X σ (100 + k11))), (8, .int (nI n26))]) Γ dX0_rent_161 7 rfl rfl (by decide) rfl ?_
                          refine A_goto (t := 140) Γ dX0_rent_164 (by decide) ?_
                          exact A_sub [1, 2, 3, 4, 5, 6, 7, 0] rfl (ihL28 _ _ (lpc2 eL28 hqL28))
                    exact A_sub [2, 3, 4, 5, 6, 7, 1, 0] rfl (hLL28 _ _ _ eLL28)
                  · replace h := it_t c h
                    refine A_aload_n Γ dX0_rent_126 0 rfl ?_
                    refine A_iconst (v := 3) Γ dX0_rent_127 (by decide) ?_
                    replace h := b2 h
                    obtain ⟨v73, σ74, e72, h⟩ := h
                    refine kX0_X0found Γ Ξ hRm (by decide) (by decide) e72 (Nat.le_of_ble_eq_true rfl) dX0_rent_128 ?_
                    obtain ⟨rfl, rfl⟩ := inj2 h
                    exact hret _ _ dX0_rent_131
                replace eLL16 := lq2_ex eLL16
                obtain ⟨nL16, eLL16⟩ := eLL16
                have hLL16 : ∀ (nL16 : Nat) (x17 : Int32) (x18 : Int32), lpf2 (c_rent_L16 σ k11) nL16 x17 x18 = some x19 → At G 14 σ [(0, .ref (xo X)), (2, .int a2), (3, .int a3), (4, .int a4), (5, .int a5), (6, va_rf (rk X σ (100 + k11))), (7, .int x17), (8, .int x18)] [] 91 := by
                  intro nL16
                  induction nL16 with
                  | zero => intro x17 x18 eL16; exact (lpf2_0 eL16).elim
                  | succ nL16 ihL16 =>
                    intro x17 x18 eL16
                    replace eL16 := lpf2_s eL16
                    obtain ⟨qL16, eL16, hqL16⟩ := eL16
                    rw [c_rent_L16] at eL16
                    refine A_iload Γ dX0_rent_91 7 rfl ?_
                    refine A_aloadO Γ dX0_rent_93 5 rfl ?_
                    replace eL16 := b1 eL16
                    obtain ⟨n20, e21, eL16⟩ := eL16
                    refine A_alenD Γ Ξ (Or.inl (kInt_row e12)) (rk_t cn13) e21 dX0_rent_95 ?_
                    refine A_icmp_ge (t := 121) Γ dX0_rent_96 (by decide) (fun c => ?_) (fun c => ?_)
                    · replace eL16 := it_t c eL16
                      obtain rfl := pr1 (lpx2 eL16 hqL16)
                      exact A_sub [0, 1, 2, 3, 4, 5, 6] rfl hXL16
                    · replace eL16 := it_f c eL16
                      refine A_iload Γ dX0_rent_99 6 rfl ?_
                      refine A_aloadO Γ dX0_rent_101 5 rfl ?_
                      refine A_iload Γ dX0_rent_103 7 rfl ?_
                      replace eL16 := b1 eL16
                      obtain ⟨v22, e23, eL16⟩ := eL16
                      refine A_aldD Γ Ξ (kInt_row e12) (rk_t cn13) e23 dX0_rent_105 ?_
                      refine A_iconst (v := 0) Γ dX0_rent_106 (by decide) ?_
                      refine A_bipush (v := 9) Γ dX0_rent_107 (by decide) ?_
                      replace eL16 := b1 eL16
                      obtain ⟨v25, e24, eL16⟩ := eL16
                      refine kX0_X0in Γ (kpX Ξ) hRm (by decide) (by decide) e24 (Nat.le_of_ble_eq_true rfl) dX0_rent_109 ?_
                      refine A_iand Γ dX0_rent_112 ?_
                      refine A_istore (lv' := [(7, .int (x17 &&& v25)), (0, .ref (xo X)), (2, .int a2), (3, .int a3), (4, .int a4), (5, .int a5), (6, va_rf (rk X σ (100 + k11))), (8, .int x18)]) Γ dX0_rent_113 (by decide) (by rcases rf_or X σ (100 + k11) with h | h <;> rw [h] <;> rfl) ?_
                      refine A_iinc (v := x18 + 1) (lv' := [(8, .int (x18 + 1)), (7, .int (x17 &&& v25)), (0, .ref (xo X)), (2, .int a2), (3, .int a3), (4, .int a4), (5, .int a5), (6, va_rf (rk X σ (100 + k11)))]) Γ dX0_rent_115 7 rfl rfl (by decide) rfl ?_
                      refine A_goto (t := 91) Γ dX0_rent_118 (by decide) ?_
                      exact A_sub [2, 3, 4, 5, 6, 7, 1, 0] rfl (ihL16 _ _ (lpc2 eL16 hqL16))
                exact A_sub [3, 5, 6, 7, 8, 2, 1, 0] rfl (hLL16 _ _ _ eLL16)
              · replace h := it_t c h
                refine A_aload_n Γ dX0_rent_79 1 rfl ?_
                refine A_iconst (v := 5) Γ dX0_rent_80 (by decide) ?_
                replace h := b2 h
                obtain ⟨v76, σ77, e75, h⟩ := h
                refine kX0_X0found Γ Ξ hRm (by decide) (by decide) e75 (Nat.le_of_ble_eq_true rfl) dX0_rent_81 ?_
                obtain ⟨rfl, rfl⟩ := inj2 h
                exact hret _ _ dX0_rent_84
            · replace h := it_f cn13 h
              refine A_aload_n Γ dX0_rent_67 1 rfl ?_
              refine A_iconst (v := 1) Γ dX0_rent_68 (by decide) ?_
              replace h := b2 h
              obtain ⟨v79, σ80, e78, h⟩ := h
              refine kX0_X0found Γ Ξ hRm (by decide) (by decide) e78 (Nat.le_of_ble_eq_true rfl) dX0_rent_69 ?_
              obtain ⟨rfl, rfl⟩ := inj2 h
              exact hret _ _ dX0_rent_72
          · replace h := it_t c h
            refine A_iconst (v := (-1)) Γ dX0_rent_52 (by decide) ?_
            obtain ⟨rfl, rfl⟩ := inj2 h
            exact hret _ _ dX0_rent_53
theorem mtX0_rent (l : Launch) (X : Xw) {σ σ' : St} {a1 : Int32} {a2 : Int32} {a3 : Int32} {a4 : Int32} {a5 : Int32} {r : Int32} (h : c_rent σ a1 a2 a3 a4 a5 = some (r, σ')) : MetZ 0 l X yX0_rent cX0_rent 14 (some .int) 2 48 [.ref (xo X), .int a1, .int a2, .int a3, .int a4, .int a5] σ (some (.int r)) σ' := MetZ.ofAt (by decide) (Nat.le_of_ble_eq_true rfl) (fun G _ Γ Ξ hR hret => wkX0_rent Γ Ξ hR h hret)

set_option maxHeartbeats 4000000 in
set_option maxRecDepth 100000 in
theorem wkX0_rented {G : Gx} {X : Xw} {σ : St} {a1 : Int32} (Γ : Ok G RX0 cX0_rented 2) (Ξ : OkX 0 G X) (hRm : Rm G 1 22) {r : Int32} (h : c_rented σ a1 = some r) (hret : ∀ (pc : Nat) (lv : List (Nat × Value)), retIs cX0_rented (some .int) (some (.int r)) pc → At G 2 σ lv [.int r] pc) : At G 2 σ [(0, .ref (xo X)), (1, .int a1)] [] 0 := by
  rw [c_rented] at h
  refine A_iload_n Γ dX0_rented_0 1 rfl ?_
  refine A_iconst (v := 0) Γ dX0_rented_1 (by decide) ?_
  refine A_aload_n Γ dX0_rented_2 0 rfl ?_
  refine g0_58 Γ Ξ dX0_rented_3 ?_
  refine A_iconst (v := 1) Γ dX0_rented_6 (by decide) ?_
  refine A_isub Γ dX0_rented_7 ?_
  replace h := b1 h
  obtain ⟨v2, e1, h⟩ := h
  refine kX0_X0in Γ (kpX Ξ) hRm (by decide) (by decide) e1 (Nat.le_of_ble_eq_true rfl) dX0_rented_8 ?_
  replace h := b1 h
  obtain ⟨x4, eJ3, h⟩ := h
  have hJJ3 : At G 2 σ [] [.int x4] 25 := by
    obtain rfl := inj1 h
    exact hret _ _ dX0_rented_25
  refine A_if_eq (t := 23) Γ dX0_rented_11 (by decide) (fun c => ?_) (fun c => ?_)
  · replace eJ3 := it_t c eJ3
    refine A_bipush (v := (-9)) Γ dX0_rented_23 (by decide) ?_
    obtain rfl := inj1 eJ3
    exact A_sub [] rfl hJJ3
  · replace eJ3 := it_f c eJ3
    refine A_aload_n Γ dX0_rented_14 0 rfl ?_
    refine g0_59 Γ Ξ dX0_rented_15 ?_
    refine A_iload_n Γ dX0_rented_18 1 rfl ?_
    replace eJ3 := b1 eJ3
    obtain ⟨v5, e6, eJ3⟩ := eJ3
    refine r0_59 Γ Ξ e6 dX0_rented_19 ?_
    refine A_goto (t := 25) Γ dX0_rented_20 (by decide) ?_
    obtain rfl := inj1 eJ3
    exact A_sub [] rfl hJJ3
theorem mtX0_rented (l : Launch) (X : Xw) {σ : St} {a1 : Int32} {r : Int32} (h : c_rented σ a1 = some r) : MetZ 0 l X yX0_rented cX0_rented 2 (some .int) 1 22 [.ref (xo X), .int a1] σ (some (.int r)) σ := MetZ.ofAt (by decide) (Nat.le_of_ble_eq_true rfl) (fun G _ Γ Ξ hR hret => wkX0_rented Γ Ξ hR h hret)

set_option maxHeartbeats 4000000 in
set_option maxRecDepth 100000 in
theorem wkX0_counted {G : Gx} {X : Xw} {σ : St} {a1 : Int32} (Γ : Ok G RX0 cX0_counted 4) (Ξ : OkX 0 G X) (hRm : Rm G 0 0) {r : Int32} (h : c_counted σ a1 = some r) (hret : ∀ (pc : Nat) (lv : List (Nat × Value)), retIs cX0_counted (some .int) (some (.int r)) pc → At G 4 σ lv [.int r] pc) : At G 4 σ [(0, .ref (xo X)), (1, .int a1)] [] 0 := by
  rw [c_counted] at h
  refine A_iconst (v := 0) Γ dX0_counted_0 (by decide) ?_
  refine A_istore_n (lv' := [(2, .int 0), (0, .ref (xo X)), (1, .int a1)]) Γ dX0_counted_1 (by decide) rfl ?_
  refine A_iload_n Γ dX0_counted_2 2 rfl ?_
  by_cases c0 : a1 = 0
  · replace h := it_t c0 h
    refine A_tableIn (t := 44) (off := 41) Γ dX0_counted_3 (by rw [c0]; decide) (by rw [c0]; decide) (by rw [c0]; rfl) (by decide) ?_
    refine A_aload_n Γ dX0_counted_44 1 rfl ?_
    refine g0_11 Γ Ξ dX0_counted_45 ?_
    obtain rfl := inj1 h
    exact hret _ _ dX0_counted_48
  replace h := it_f c0 h
  by_cases c1 : a1 = 1
  · replace h := it_t c1 h
    refine A_tableIn (t := 49) (off := 46) Γ dX0_counted_3 (by rw [c1]; decide) (by rw [c1]; decide) (by rw [c1]; rfl) (by decide) ?_
    refine A_aload_n Γ dX0_counted_49 1 rfl ?_
    refine g0_19 Γ Ξ dX0_counted_50 ?_
    obtain rfl := inj1 h
    exact hret _ _ dX0_counted_53
  replace h := it_f c1 h
  by_cases c2 : a1 = 2
  · replace h := it_t c2 h
    refine A_tableIn (t := 54) (off := 51) Γ dX0_counted_3 (by rw [c2]; decide) (by rw [c2]; decide) (by rw [c2]; rfl) (by decide) ?_
    refine A_iconst (v := 0) Γ dX0_counted_54 (by decide) ?_
    refine A_istore_n (lv' := [(3, .int 0), (2, .int 0), (0, .ref (xo X)), (1, .int a1)]) Γ dX0_counted_55 (by decide) rfl ?_
    replace h := b1 h
    obtain ⟨x4, eLL1, h⟩ := h
    have hXL1 : At G 4 σ [(2, .int x4)] [] 90 := by
      refine A_iload_n Γ dX0_counted_90 0 rfl ?_
      obtain rfl := inj1 h
      exact hret _ _ dX0_counted_91
    replace eLL1 := lq2_ex eLL1
    obtain ⟨nL1, eLL1⟩ := eLL1
    have hLL1 : ∀ (nL1 : Nat) (x2 : Int32) (x3 : Int32), lpf2 (c_counted_L1 σ) nL1 x2 x3 = some x4 → At G 4 σ [(0, .ref (xo X)), (2, .int x2), (3, .int x3)] [] 56 := by
      intro nL1
      induction nL1 with
      | zero => intro x2 x3 eL1; exact (lpf2_0 eL1).elim
      | succ nL1 ihL1 =>
        intro x2 x3 eL1
        replace eL1 := lpf2_s eL1
        obtain ⟨qL1, eL1, hqL1⟩ := eL1
        rw [c_counted_L1] at eL1
        refine A_iload_n Γ dX0_counted_56 2 rfl ?_
        refine A_aload_n Γ dX0_counted_57 0 rfl ?_
        refine g0_19 Γ Ξ dX0_counted_58 ?_
        refine A_icmp_ge (t := 90) Γ dX0_counted_61 (by decide) (fun c => ?_) (fun c => ?_)
        · replace eL1 := it_t c eL1
          obtain rfl := pr1 (lpx2 eL1 hqL1)
          exact A_sub [1] rfl hXL1
        · replace eL1 := it_f c eL1
          refine A_iload_n Γ dX0_counted_64 1 rfl ?_
          refine A_aload_n Γ dX0_counted_65 0 rfl ?_
          refine g0_18 Γ Ξ dX0_counted_66 ?_
          refine A_iload_n Γ dX0_counted_69 2 rfl ?_
          replace eL1 := b1 eL1
          obtain ⟨k5, e6, eL1⟩ := eL1
          refine A_trsD Γ Ξ e6 dX0_counted_70 ?_
          replace eL1 := b1 eL1
          obtain ⟨v7, e8, eL1⟩ := eL1
          refine gTX0_4 Γ Ξ (kTr_tD e6) rfl e8 dX0_counted_71 ?_
          replace eL1 := b1 eL1
          obtain ⟨x10, eJ9, eL1⟩ := eL1
          have hJJ9 : At G 4 σ [(0, .ref (xo X)), (3, .int x3)] [.int x10, .int x2] 82 := by
            refine A_iadd Γ dX0_counted_82 ?_
            refine A_istore_n (lv' := [(2, .int (x2 + x10)), (0, .ref (xo X)), (3, .int x3)]) Γ dX0_counted_83 (by decide) rfl ?_
            refine A_iinc (v := x3 + 1) (lv' := [(3, .int (x3 + 1)), (2, .int (x2 + x10)), (0, .ref (xo X))]) Γ dX0_counted_84 2 rfl rfl (by decide) rfl ?_
            refine A_goto (t := 56) Γ dX0_counted_87 (by decide) ?_
            exact A_sub [2, 1, 0] rfl (ihL1 _ _ (lpc2 eL1 hqL1))
          refine A_if_eq (t := 81) Γ dX0_counted_74 (by decide) (fun c => ?_) (fun c => ?_)
          · replace eJ9 := it_t c eJ9
            refine A_iconst (v := 0) Γ dX0_counted_81 (by decide) ?_
            obtain rfl := inj1 eJ9
            exact A_sub [0, 2] rfl hJJ9
          · replace eJ9 := it_f c eJ9
            refine A_iconst (v := 1) Γ dX0_counted_77 (by decide) ?_
            refine A_goto (t := 82) Γ dX0_counted_78 (by decide) ?_
            obtain rfl := inj1 eJ9
            exact A_sub [0, 2] rfl hJJ9
    exact A_sub [2, 1, 0] rfl (hLL1 _ _ _ eLL1)
  replace h := it_f c2 h
  by_cases c3 : a1 = 3
  · replace h := it_t c3 h
    refine A_tableIn (t := 92) (off := 89) Γ dX0_counted_3 (by rw [c3]; decide) (by rw [c3]; decide) (by rw [c3]; rfl) (by decide) ?_
    refine A_iconst (v := 0) Γ dX0_counted_92 (by decide) ?_
    refine A_istore_n (lv' := [(3, .int 0), (2, .int 0), (0, .ref (xo X)), (1, .int a1)]) Γ dX0_counted_93 (by decide) rfl ?_
    replace h := b1 h
    obtain ⟨x14, eLL11, h⟩ := h
    have hXL11 : At G 4 σ [(2, .int x14)] [] 123 := by
      refine A_iload_n Γ dX0_counted_123 0 rfl ?_
      refine A_iconst (v := 2) Γ dX0_counted_124 (by decide) ?_
      refine A_idiv Γ dX0_counted_125 (by decide) ?_
      obtain rfl := inj1 h
      exact hret _ _ dX0_counted_126
    replace eLL11 := lq2_ex eLL11
    obtain ⟨nL11, eLL11⟩ := eLL11
    have hLL11 : ∀ (nL11 : Nat) (x12 : Int32) (x13 : Int32), lpf2 (c_counted_L11 σ) nL11 x12 x13 = some x14 → At G 4 σ [(0, .ref (xo X)), (2, .int x12), (3, .int x13)] [] 94 := by
      intro nL11
      induction nL11 with
      | zero => intro x12 x13 eL11; exact (lpf2_0 eL11).elim
      | succ nL11 ihL11 =>
        intro x12 x13 eL11
        replace eL11 := lpf2_s eL11
        obtain ⟨qL11, eL11, hqL11⟩ := eL11
        rw [c_counted_L11] at eL11
        refine A_iload_n Γ dX0_counted_94 2 rfl ?_
        refine A_bipush (v := 64) Γ dX0_counted_95 (by decide) ?_
        refine A_icmp_ge (t := 123) Γ dX0_counted_97 (by decide) (fun c => ?_) (fun c => ?_)
        · replace eL11 := it_t c eL11
          obtain rfl := pr1 (lpx2 eL11 hqL11)
          exact A_sub [1] rfl hXL11
        · replace eL11 := it_f c eL11
          refine A_iload_n Γ dX0_counted_100 1 rfl ?_
          refine A_aload_n Γ dX0_counted_101 0 rfl ?_
          refine g0_12 Γ Ξ dX0_counted_102 ?_
          refine A_iload_n Γ dX0_counted_105 2 rfl ?_
          replace eL11 := b1 eL11
          obtain ⟨v15, e16, eL11⟩ := eL11
          refine r0_12 Γ Ξ e16 dX0_counted_106 ?_
          replace eL11 := b1 eL11
          obtain ⟨x18, eJ17, eL11⟩ := eL11
          have hJJ17 : At G 4 σ [(0, .ref (xo X)), (3, .int x13)] [.int x18, .int x12] 115 := by
            refine A_iadd Γ dX0_counted_115 ?_
            refine A_istore_n (lv' := [(2, .int (x12 + x18)), (0, .ref (xo X)), (3, .int x13)]) Γ dX0_counted_116 (by decide) rfl ?_
            refine A_iinc (v := x13 + 1) (lv' := [(3, .int (x13 + 1)), (2, .int (x12 + x18)), (0, .ref (xo X))]) Γ dX0_counted_117 2 rfl rfl (by decide) rfl ?_
            refine A_goto (t := 94) Γ dX0_counted_120 (by decide) ?_
            exact A_sub [2, 1, 0] rfl (ihL11 _ _ (lpc2 eL11 hqL11))
          refine A_if_le (t := 114) Γ dX0_counted_107 (by decide) (fun c => ?_) (fun c => ?_)
          · replace eJ17 := it_t c eJ17
            refine A_iconst (v := 0) Γ dX0_counted_114 (by decide) ?_
            obtain rfl := inj1 eJ17
            exact A_sub [0, 2] rfl hJJ17
          · replace eJ17 := it_f c eJ17
            refine A_iconst (v := 1) Γ dX0_counted_110 (by decide) ?_
            refine A_goto (t := 115) Γ dX0_counted_111 (by decide) ?_
            obtain rfl := inj1 eJ17
            exact A_sub [0, 2] rfl hJJ17
    exact A_sub [2, 1, 0] rfl (hLL11 _ _ _ eLL11)
  replace h := it_f c3 h
  by_cases c4 : a1 = 4
  · replace h := it_t c4 h
    refine A_tableIn (t := 127) (off := 124) Γ dX0_counted_3 (by rw [c4]; decide) (by rw [c4]; decide) (by rw [c4]; rfl) (by decide) ?_
    refine A_aload_n Γ dX0_counted_127 1 rfl ?_
    refine g0_33 Γ Ξ dX0_counted_128 ?_
    obtain rfl := inj1 h
    exact hret _ _ dX0_counted_131
  replace h := it_f c4 h
  by_cases c5 : a1 = 5
  · replace h := it_t c5 h
    refine A_tableIn (t := 132) (off := 129) Γ dX0_counted_3 (by rw [c5]; decide) (by rw [c5]; decide) (by rw [c5]; rfl) (by decide) ?_
    refine A_aload_n Γ dX0_counted_132 1 rfl ?_
    refine g0_22 Γ Ξ dX0_counted_133 ?_
    obtain rfl := inj1 h
    exact hret _ _ dX0_counted_136
  replace h := it_f c5 h
  by_cases c6 : a1 = 6
  · replace h := it_t c6 h
    refine A_tableIn (t := 137) (off := 134) Γ dX0_counted_3 (by rw [c6]; decide) (by rw [c6]; decide) (by rw [c6]; rfl) (by decide) ?_
    refine A_iconst (v := 0) Γ dX0_counted_137 (by decide) ?_
    refine A_istore_n (lv' := [(3, .int 0), (2, .int 0), (0, .ref (xo X)), (1, .int a1)]) Γ dX0_counted_138 (by decide) rfl ?_
    replace h := b1 h
    obtain ⟨x22, eLL19, h⟩ := h
    have hXL19 : At G 4 σ [(2, .int x22)] [] 168 := by
      refine A_iload_n Γ dX0_counted_168 0 rfl ?_
      obtain rfl := inj1 h
      exact hret _ _ dX0_counted_169
    replace eLL19 := lq2_ex eLL19
    obtain ⟨nL19, eLL19⟩ := eLL19
    have hLL19 : ∀ (nL19 : Nat) (x20 : Int32) (x21 : Int32), lpf2 (c_counted_L19 σ) nL19 x20 x21 = some x22 → At G 4 σ [(0, .ref (xo X)), (2, .int x20), (3, .int x21)] [] 139 := by
      intro nL19
      induction nL19 with
      | zero => intro x20 x21 eL19; exact (lpf2_0 eL19).elim
      | succ nL19 ihL19 =>
        intro x20 x21 eL19
        replace eL19 := lpf2_s eL19
        obtain ⟨qL19, eL19, hqL19⟩ := eL19
        rw [c_counted_L19] at eL19
        refine A_iload_n Γ dX0_counted_139 2 rfl ?_
        refine A_bipush (v := 6) Γ dX0_counted_140 (by decide) ?_
        refine A_icmp_ge (t := 168) Γ dX0_counted_142 (by decide) (fun c => ?_) (fun c => ?_)
        · replace eL19 := it_t c eL19
          obtain rfl := pr1 (lpx2 eL19 hqL19)
          exact A_sub [1] rfl hXL19
        · replace eL19 := it_f c eL19
          refine A_iload_n Γ dX0_counted_145 1 rfl ?_
          refine A_aload_n Γ dX0_counted_146 0 rfl ?_
          refine g0_5 Γ Ξ dX0_counted_147 ?_
          refine A_iload_n Γ dX0_counted_150 2 rfl ?_
          replace eL19 := b1 eL19
          obtain ⟨k23, e24, eL19⟩ := eL19
          refine A_rows Γ Ξ e24 dX0_counted_151 ?_
          replace eL19 := b1 eL19
          obtain ⟨x27, eJ26, eL19⟩ := eL19
          have hJJ26 : At G 4 σ [(0, .ref (xo X)), (3, .int x21)] [.int x27, .int x20] 160 := by
            refine A_iadd Γ dX0_counted_160 ?_
            refine A_istore_n (lv' := [(2, .int (x20 + x27)), (0, .ref (xo X)), (3, .int x21)]) Γ dX0_counted_161 (by decide) rfl ?_
            refine A_iinc (v := x21 + 1) (lv' := [(3, .int (x21 + 1)), (2, .int (x20 + x27)), (0, .ref (xo X))]) Γ dX0_counted_162 2 rfl rfl (by decide) rfl ?_
            refine A_goto (t := 139) Γ dX0_counted_165 (by decide) ?_
            exact A_sub [2, 1, 0] rfl (ihL19 _ _ (lpc2 eL19 hqL19))
          refine A_ifnonnull (t := 159) Γ dX0_counted_152 (by decide) (fun cn25 => ?_) (fun cn25 => ?_)
          · replace eJ26 := it_t cn25 eJ26
            refine A_iconst (v := 1) Γ dX0_counted_159 (by decide) ?_
            obtain rfl := inj1 eJ26
            exact A_sub [0, 2] rfl hJJ26
          · replace eJ26 := it_f cn25 eJ26
            refine A_iconst (v := 0) Γ dX0_counted_155 (by decide) ?_
            refine A_goto (t := 160) Γ dX0_counted_156 (by decide) ?_
            obtain rfl := inj1 eJ26
            exact A_sub [0, 2] rfl hJJ26
    exact A_sub [2, 1, 0] rfl (hLL19 _ _ _ eLL19)
  replace h := it_f c6 h
  refine A_tableOut (t := 170) Γ dX0_counted_3 (tb_out (n := 7) (by decide) (fun j hj => by match j, hj with | 0, _ => exact c0 | 1, _ => exact c1 | 2, _ => exact c2 | 3, _ => exact c3 | 4, _ => exact c4 | 5, _ => exact c5 | 6, _ => exact c6)) (by decide) ?_
  refine A_iconst (v := 0) Γ dX0_counted_170 (by decide) ?_
  refine A_istore_n (lv' := [(3, .int 0), (2, .int 0), (0, .ref (xo X)), (1, .int a1)]) Γ dX0_counted_171 (by decide) rfl ?_
  replace h := b1 h
  obtain ⟨x31, eLL28, h⟩ := h
  have hXL28 : At G 4 σ [(2, .int x31)] [] 200 := by
    refine A_iload_n Γ dX0_counted_200 0 rfl ?_
    obtain rfl := inj1 h
    exact hret _ _ dX0_counted_201
  replace eLL28 := lq2_ex eLL28
  obtain ⟨nL28, eLL28⟩ := eLL28
  have hLL28 : ∀ (nL28 : Nat) (x29 : Int32) (x30 : Int32), lpf2 (c_counted_L28 σ) nL28 x29 x30 = some x31 → At G 4 σ [(0, .ref (xo X)), (2, .int x29), (3, .int x30)] [] 172 := by
    intro nL28
    induction nL28 with
    | zero => intro x29 x30 eL28; exact (lpf2_0 eL28).elim
    | succ nL28 ihL28 =>
      intro x29 x30 eL28
      replace eL28 := lpf2_s eL28
      obtain ⟨qL28, eL28, hqL28⟩ := eL28
      rw [c_counted_L28] at eL28
      refine A_iload_n Γ dX0_counted_172 2 rfl ?_
      refine A_iconst (v := 4) Γ dX0_counted_173 (by decide) ?_
      refine A_icmp_ge (t := 200) Γ dX0_counted_174 (by decide) (fun c => ?_) (fun c => ?_)
      · replace eL28 := it_t c eL28
        obtain rfl := pr1 (lpx2 eL28 hqL28)
        exact A_sub [1] rfl hXL28
      · replace eL28 := it_f c eL28
        refine A_iload_n Γ dX0_counted_177 1 rfl ?_
        refine A_aload_n Γ dX0_counted_178 0 rfl ?_
        refine g0_6 Γ Ξ dX0_counted_179 ?_
        refine A_iload_n Γ dX0_counted_182 2 rfl ?_
        replace eL28 := b1 eL28
        obtain ⟨k32, e33, eL28⟩ := eL28
        refine A_texts Γ Ξ e33 dX0_counted_183 ?_
        replace eL28 := b1 eL28
        obtain ⟨x36, eJ35, eL28⟩ := eL28
        have hJJ35 : At G 4 σ [(0, .ref (xo X)), (3, .int x30)] [.int x36, .int x29] 192 := by
          refine A_iadd Γ dX0_counted_192 ?_
          refine A_istore_n (lv' := [(2, .int (x29 + x36)), (0, .ref (xo X)), (3, .int x30)]) Γ dX0_counted_193 (by decide) rfl ?_
          refine A_iinc (v := x30 + 1) (lv' := [(3, .int (x30 + 1)), (2, .int (x29 + x36)), (0, .ref (xo X))]) Γ dX0_counted_194 2 rfl rfl (by decide) rfl ?_
          refine A_goto (t := 172) Γ dX0_counted_197 (by decide) ?_
          exact A_sub [2, 1, 0] rfl (ihL28 _ _ (lpc2 eL28 hqL28))
        refine A_ifnonnull (t := 191) Γ dX0_counted_184 (by decide) (fun cn34 => ?_) (fun cn34 => ?_)
        · replace eJ35 := it_t cn34 eJ35
          refine A_iconst (v := 1) Γ dX0_counted_191 (by decide) ?_
          obtain rfl := inj1 eJ35
          exact A_sub [0, 2] rfl hJJ35
        · replace eJ35 := it_f cn34 eJ35
          refine A_iconst (v := 0) Γ dX0_counted_187 (by decide) ?_
          refine A_goto (t := 192) Γ dX0_counted_188 (by decide) ?_
          obtain rfl := inj1 eJ35
          exact A_sub [0, 2] rfl hJJ35
  exact A_sub [2, 1, 0] rfl (hLL28 _ _ _ eLL28)
theorem mtX0_counted (l : Launch) (X : Xw) {σ : St} {a1 : Int32} {r : Int32} (h : c_counted σ a1 = some r) : MetZ 0 l X yX0_counted cX0_counted 4 (some .int) 0 0 [.ref (xo X), .int a1] σ (some (.int r)) σ := MetZ.ofAt (by decide) (Nat.le_of_ble_eq_true rfl) (fun G _ Γ Ξ hR hret => wkX0_counted Γ Ξ hR h hret)
theorem kX0_X0counted {G : Gx} {X : Xw} {cc : ByteArray} {nL pc F LO : Nat} {σ : St} {lv : List (Nat × Value)} {st : List Value} (Γ : Ok G RX0 cc nL) (Ξ : OkX 0 G X) {a1 : Int32} {r : Int32} (hRm : Rm G F LO) (hf : 0 + 1 ≤ F) (hlo : 8 + (4 + 11) + 0 ≤ LO) (h : c_counted σ a1 = some r) (hW : (st.map fun v => v.category).sum ≤ 8) (d : decode cc pc = .ok (.invokevirtual 444, 3)) (kk : At G nL σ lv (.int r :: st) (pc + 3)) : At G nL σ lv (.int a1 :: .ref (xo X) :: st) pc := A_callV Γ Ξ rfl rfl (mtX0_counted (gl G) X h) (lw_V q1035 q1037 qs28 q63 q1038) (n := 1) (by decide +kernel) (rm_ok hRm hf hlo) (rm_k hRm) rfl rfl hW d kk
set_option maxHeartbeats 4000000 in
set_option maxRecDepth 100000 in
theorem wkX0_count {G : Gx} {X : Xw} {σ : St} {a1 : Int32} (Γ : Ok G RX0 cX0_count 2) (Ξ : OkX 0 G X) (hRm : Rm G 1 23) {r : Int32} (h : c_count σ a1 = some r) (hret : ∀ (pc : Nat) (lv : List (Nat × Value)), retIs cX0_count (some .int) (some (.int r)) pc → At G 2 σ lv [.int r] pc) : At G 2 σ [(0, .ref (xo X)), (1, .int a1)] [] 0 := by
  rw [c_count] at h
  refine A_iload_n Γ dX0_count_0 1 rfl ?_
  refine A_iconst (v := 0) Γ dX0_count_1 (by decide) ?_
  refine A_bipush (v := 7) Γ dX0_count_2 (by decide) ?_
  replace h := b1 h
  obtain ⟨v2, e1, h⟩ := h
  refine kX0_X0in Γ (kpX Ξ) hRm (by decide) (by decide) e1 (Nat.le_of_ble_eq_true rfl) dX0_count_4 ?_
  replace h := b1 h
  obtain ⟨x4, eJ3, h⟩ := h
  have hJJ3 : At G 2 σ [] [.int x4] 19 := by
    obtain rfl := inj1 h
    exact hret _ _ dX0_count_19
  refine A_if_eq (t := 18) Γ dX0_count_7 (by decide) (fun c => ?_) (fun c => ?_)
  · replace eJ3 := it_t c eJ3
    refine A_iconst (v := (-1)) Γ dX0_count_18 (by decide) ?_
    obtain rfl := inj1 eJ3
    exact A_sub [] rfl hJJ3
  · replace eJ3 := it_f c eJ3
    refine A_aload_n Γ dX0_count_10 0 rfl ?_
    refine A_iload_n Γ dX0_count_11 1 rfl ?_
    replace eJ3 := b1 eJ3
    obtain ⟨v6, e5, eJ3⟩ := eJ3
    refine kX0_X0counted Γ Ξ hRm (by decide) (by decide) e5 (Nat.le_of_ble_eq_true rfl) dX0_count_12 ?_
    refine A_goto (t := 19) Γ dX0_count_15 (by decide) ?_
    obtain rfl := inj1 eJ3
    exact A_sub [] rfl hJJ3
theorem mtX0_count (l : Launch) (X : Xw) {σ : St} {a1 : Int32} {r : Int32} (h : c_count σ a1 = some r) : MetZ 0 l X yX0_count cX0_count 2 (some .int) 1 23 [.ref (xo X), .int a1] σ (some (.int r)) σ := MetZ.ofAt (by decide) (Nat.le_of_ble_eq_true rfl) (fun G _ Γ Ξ hR hret => wkX0_count Γ Ξ hR h hret)

set_option maxHeartbeats 4000000 in
set_option maxRecDepth 100000 in
theorem wkX0_finding {G : Gx} {X : Xw} {σ : St}  (Γ : Ok G RX0 cX0_finding 1) (Ξ : OkX 0 G X) (hRm : Rm G 0 0) {r : Int32} (h : c_finding σ = some r) (hret : ∀ (pc : Nat) (lv : List (Nat × Value)), retIs cX0_finding (some .int) (some (.int r)) pc → At G 1 σ lv [.int r] pc) : At G 1 σ [(0, .ref (xo X))] [] 0 := by
  rw [c_finding] at h
  refine A_aload_n Γ dX0_finding_0 0 rfl ?_
  refine g0_0 Γ Ξ dX0_finding_1 ?_
  obtain rfl := inj1 h
  exact hret _ _ dX0_finding_4
theorem mtX0_finding (l : Launch) (X : Xw) {σ : St}  {r : Int32} (h : c_finding σ = some r) : MetZ 0 l X yX0_finding cX0_finding 1 (some .int) 0 0 [.ref (xo X)] σ (some (.int r)) σ := MetZ.ofAt (by decide) (Nat.le_of_ble_eq_true rfl) (fun G _ Γ Ξ hR hret => wkX0_finding Γ Ξ hR h hret)

set_option maxHeartbeats 4000000 in
set_option maxRecDepth 100000 in
theorem wkX0_findings {G : Gx} {X : Xw} {σ : St} {a1 : Int32} (Γ : Ok G RX0 cX0_findings 2) (Ξ : OkX 0 G X) (hRm : Rm G 1 22) {r : Int32} (h : c_findings σ a1 = some r) (hret : ∀ (pc : Nat) (lv : List (Nat × Value)), retIs cX0_findings (some .int) (some (.int r)) pc → At G 2 σ lv [.int r] pc) : At G 2 σ [(0, .ref (xo X)), (1, .int a1)] [] 0 := by
  rw [c_findings] at h
  refine A_iload_n Γ dX0_findings_0 1 rfl ?_
  refine A_iconst (v := 1) Γ dX0_findings_1 (by decide) ?_
  refine A_iconst (v := 5) Γ dX0_findings_2 (by decide) ?_
  replace h := b1 h
  obtain ⟨v2, e1, h⟩ := h
  refine kX0_X0in Γ (kpX Ξ) hRm (by decide) (by decide) e1 (Nat.le_of_ble_eq_true rfl) dX0_findings_3 ?_
  replace h := b1 h
  obtain ⟨x4, eJ3, h⟩ := h
  have hJJ3 : At G 2 σ [] [.int x4] 19 := by
    obtain rfl := inj1 h
    exact hret _ _ dX0_findings_19
  refine A_if_eq (t := 18) Γ dX0_findings_6 (by decide) (fun c => ?_) (fun c => ?_)
  · replace eJ3 := it_t c eJ3
    refine A_iconst (v := (-1)) Γ dX0_findings_18 (by decide) ?_
    obtain rfl := inj1 eJ3
    exact A_sub [] rfl hJJ3
  · replace eJ3 := it_f c eJ3
    refine A_aload_n Γ dX0_findings_9 0 rfl ?_
    refine g0_1 Γ Ξ dX0_findings_10 ?_
    refine A_iload_n Γ dX0_findings_13 1 rfl ?_
    replace eJ3 := b1 eJ3
    obtain ⟨v5, e6, eJ3⟩ := eJ3
    refine r0_1 Γ Ξ e6 dX0_findings_14 ?_
    refine A_goto (t := 19) Γ dX0_findings_15 (by decide) ?_
    obtain rfl := inj1 eJ3
    exact A_sub [] rfl hJJ3
theorem mtX0_findings (l : Launch) (X : Xw) {σ : St} {a1 : Int32} {r : Int32} (h : c_findings σ a1 = some r) : MetZ 0 l X yX0_findings cX0_findings 2 (some .int) 1 22 [.ref (xo X), .int a1] σ (some (.int r)) σ := MetZ.ofAt (by decide) (Nat.le_of_ble_eq_true rfl) (fun G _ Γ Ξ hR hret => wkX0_findings Γ Ξ hR h hret)

set_option maxHeartbeats 4000000 in
set_option maxRecDepth 100000 in
theorem wkX0_mix {G : Gx} {X : Xw} {σ σ' : St} {a1 : Int64} (Γ : Ok G RX0 cX0_mix 3) (Ξ : OkX 0 G X) (hRm : Rm G 0 0)  (h : c_mix σ a1 = some σ') (hret : ∀ (pc : Nat) (lv : List (Nat × Value)), retIs cX0_mix none (none) pc → At G 3 σ' lv [] pc) : At G 3 σ [(0, .ref (xo X)), (1, .long a1)] [] 0 := by
  rw [c_mix] at h
  refine A_aload_n Γ dX0_mix_0 0 rfl ?_
  refine A_ldc2 (v := 31) Γ q1056 dX0_mix_1 ?_
  refine A_aload_n Γ dX0_mix_4 0 rfl ?_
  refine g0_61 Γ Ξ dX0_mix_5 ?_
  refine A_lmul Γ dX0_mix_8 ?_
  refine A_lload_n Γ dX0_mix_9 1 rfl ?_
  refine A_ladd Γ dX0_mix_10 ?_
  refine p0_61 Γ Ξ dX0_mix_11 ?_
  obtain rfl := inj1 h
  exact hret _ _ dX0_mix_14
theorem mtX0_mix (l : Launch) (X : Xw) {σ σ' : St} {a1 : Int64}  (h : c_mix σ a1 = some σ') : MetZ 0 l X yX0_mix cX0_mix 3 none 0 0 [.ref (xo X), .long a1] σ (none) σ' := MetZ.ofAt (by decide) (Nat.le_of_ble_eq_true rfl) (fun G _ Γ Ξ hR hret => wkX0_mix Γ Ξ hR h hret)
theorem kX0_X0mix {G : Gx} {X : Xw} {cc : ByteArray} {nL pc F LO : Nat} {σ σ' : St} {lv : List (Nat × Value)} {st : List Value} (Γ : Ok G RX0 cc nL) (Ξ : OkX 0 G X) {a1 : Int64}  (hRm : Rm G F LO) (hf : 0 + 1 ≤ F) (hlo : 8 + (3 + 11) + 0 ≤ LO) (h : c_mix σ a1 = some σ') (hW : (st.map fun v => v.category).sum ≤ 8) (d : decode cc pc = .ok (.invokevirtual 452, 3)) (kk : At G nL σ' lv (st) (pc + 3)) : At G nL σ lv (.long a1 :: .ref (xo X) :: st) pc := A_callV Γ Ξ rfl rfl (mtX0_mix (gl G) X h) (lw_V q1052 q1054 qs29 q63 q1055) (n := 1) (by decide +kernel) (rm_ok hRm hf hlo) (rm_k hRm) rfl rfl hW d kk
set_option maxHeartbeats 4000000 in
set_option maxRecDepth 100000 in
theorem wkX0_mixWays {G : Gx} {X : Xw} {σ σ' : St}  (Γ : Ok G RX0 cX0_mixWays 4) (Ξ : OkX 0 G X) (hRm : Rm G 1 22)  (h : c_mixWays σ = some σ') (hret : ∀ (pc : Nat) (lv : List (Nat × Value)), retIs cX0_mixWays none (none) pc → At G 4 σ' lv [] pc) : At G 4 σ [(0, .ref (xo X))] [] 0 := by
  rw [c_mixWays] at h
  refine A_iconst (v := 0) Γ dX0_mixWays_0 (by decide) ?_
  refine A_istore_n (lv' := [(1, .int 0), (0, .ref (xo X))]) Γ dX0_mixWays_1 (by decide) rfl ?_
  replace h := b1 h
  obtain ⟨σ4, eLL1, h⟩ := h
  have hXL1 : At G 4 σ4 [] [] 81 := by
    obtain rfl := inj1 h
    exact hret _ _ dX0_mixWays_81
  replace eLL1 := lq2_ex eLL1
  obtain ⟨nL1, eLL1⟩ := eLL1
  have hLL1 : ∀ (nL1 : Nat) (σ2 : St) (x3 : Int32), lpf2 (c_mixWays_L1) nL1 σ2 x3 = some σ4 → At G 4 σ2 [(0, .ref (xo X)), (1, .int x3)] [] 2 := by
    intro nL1
    induction nL1 with
    | zero => intro σ2 x3 eL1; exact (lpf2_0 eL1).elim
    | succ nL1 ihL1 =>
      intro σ2 x3 eL1
      replace eL1 := lpf2_s eL1
      obtain ⟨qL1, eL1, hqL1⟩ := eL1
      rw [c_mixWays_L1] at eL1
      refine A_iload_n Γ dX0_mixWays_2 1 rfl ?_
      refine A_bipush (v := 8) Γ dX0_mixWays_3 (by decide) ?_
      refine A_icmp_ge (t := 81) Γ dX0_mixWays_5 (by decide) (fun c => ?_) (fun c => ?_)
      · replace eL1 := it_t c eL1
        obtain rfl := pr1 (lpx2 eL1 hqL1)
        exact A_sub [] rfl hXL1
      · replace eL1 := it_f c eL1
        refine A_iload_n Γ dX0_mixWays_8 1 rfl ?_
        refine A_iconst (v := 1) Γ dX0_mixWays_9 (by decide) ?_
        refine A_iadd Γ dX0_mixWays_10 ?_
        refine A_istore_n (lv' := [(2, .int (x3 + 1)), (0, .ref (xo X)), (1, .int x3)]) Γ dX0_mixWays_11 (by decide) rfl ?_
        replace eL1 := b1 eL1
        obtain ⟨σ8, eLL5, eL1⟩ := eL1
        have hXL5 : At G 4 σ8 [(0, .ref (xo X)), (1, .int x3)] [] 75 := by
          refine A_iinc (v := x3 + 1) (lv' := [(1, .int (x3 + 1)), (0, .ref (xo X))]) Γ dX0_mixWays_75 1 rfl rfl (by decide) rfl ?_
          refine A_goto (t := 2) Γ dX0_mixWays_78 (by decide) ?_
          exact A_sub [1, 0] rfl (ihL1 _ _ (lpc2 eL1 hqL1))
        replace eLL5 := lq2_ex eLL5
        obtain ⟨nL5, eLL5⟩ := eLL5
        have hLL5 : ∀ (nL5 : Nat) (σ6 : St) (x7 : Int32), lpf2 (c_mixWays_L5 x3) nL5 σ6 x7 = some σ8 → At G 4 σ6 [(0, .ref (xo X)), (1, .int x3), (2, .int x7)] [] 12 := by
          intro nL5
          induction nL5 with
          | zero => intro σ6 x7 eL5; exact (lpf2_0 eL5).elim
          | succ nL5 ihL5 =>
            intro σ6 x7 eL5
            replace eL5 := lpf2_s eL5
            obtain ⟨qL5, eL5, hqL5⟩ := eL5
            rw [c_mixWays_L5] at eL5
            refine A_iload_n Γ dX0_mixWays_12 2 rfl ?_
            refine A_bipush (v := 8) Γ dX0_mixWays_13 (by decide) ?_
            refine A_icmp_ge (t := 75) Γ dX0_mixWays_15 (by decide) (fun c => ?_) (fun c => ?_)
            · replace eL5 := it_t c eL5
              obtain rfl := pr1 (lpx2 eL5 hqL5)
              exact A_sub [0, 1] rfl hXL5
            · replace eL5 := it_f c eL5
              refine A_bipush (v := 8) Γ dX0_mixWays_18 (by decide) ?_
              refine A_iload_n Γ dX0_mixWays_20 1 rfl ?_
              refine A_imul Γ dX0_mixWays_21 ?_
              refine A_iload_n Γ dX0_mixWays_22 2 rfl ?_
              refine A_iadd Γ dX0_mixWays_23 ?_
              refine A_istore_n (lv' := [(3, .int ((8 * x3) + x7)), (0, .ref (xo X)), (1, .int x3), (2, .int x7)]) Γ dX0_mixWays_24 (by decide) rfl ?_
              refine A_aload_n Γ dX0_mixWays_25 1 rfl ?_
              refine A_aload_n Γ dX0_mixWays_26 1 rfl ?_
              refine g0_12 Γ Ξ dX0_mixWays_27 ?_
              refine A_iload_n Γ dX0_mixWays_30 0 rfl ?_
              replace eL5 := b1 eL5
              obtain ⟨v9, e10, eL5⟩ := eL5
              refine r0_12 Γ Ξ e10 dX0_mixWays_31 ?_
              refine A_i2l Γ dX0_mixWays_32 ?_
              replace eL5 := b1 eL5
              obtain ⟨σ12, e11, eL5⟩ := eL5
              refine kX0_X0mix Γ Ξ hRm (by decide) (by decide) e11 (Nat.le_of_ble_eq_true rfl) dX0_mixWays_33 ?_
              refine A_aload_n Γ dX0_mixWays_36 1 rfl ?_
              refine A_aload_n Γ dX0_mixWays_37 1 rfl ?_
              refine g0_13 Γ Ξ dX0_mixWays_38 ?_
              refine A_iload_n Γ dX0_mixWays_41 0 rfl ?_
              replace eL5 := b1 eL5
              obtain ⟨v13, e14, eL5⟩ := eL5
              refine r0_13 Γ Ξ e14 dX0_mixWays_42 ?_
              refine A_i2l Γ dX0_mixWays_43 ?_
              replace eL5 := b1 eL5
              obtain ⟨σ16, e15, eL5⟩ := eL5
              refine kX0_X0mix Γ Ξ hRm (by decide) (by decide) e15 (Nat.le_of_ble_eq_true rfl) dX0_mixWays_44 ?_
              refine A_aload_n Γ dX0_mixWays_47 1 rfl ?_
              refine A_aload_n Γ dX0_mixWays_48 1 rfl ?_
              refine g0_14 Γ Ξ dX0_mixWays_49 ?_
              refine A_iload_n Γ dX0_mixWays_52 0 rfl ?_
              replace eL5 := b1 eL5
              obtain ⟨v17, e18, eL5⟩ := eL5
              refine r0_14 Γ Ξ e18 dX0_mixWays_53 ?_
              refine A_i2l Γ dX0_mixWays_54 ?_
              replace eL5 := b1 eL5
              obtain ⟨σ20, e19, eL5⟩ := eL5
              refine kX0_X0mix Γ Ξ hRm (by decide) (by decide) e19 (Nat.le_of_ble_eq_true rfl) dX0_mixWays_55 ?_
              refine A_aload_n Γ dX0_mixWays_58 1 rfl ?_
              refine A_aload_n Γ dX0_mixWays_59 1 rfl ?_
              refine g0_15 Γ Ξ dX0_mixWays_60 ?_
              refine A_iload_n Γ dX0_mixWays_63 0 rfl ?_
              replace eL5 := b1 eL5
              obtain ⟨v21, e22, eL5⟩ := eL5
              refine r0_15 Γ Ξ e22 dX0_mixWays_64 ?_
              refine A_i2l Γ dX0_mixWays_65 ?_
              replace eL5 := b1 eL5
              obtain ⟨σ24, e23, eL5⟩ := eL5
              refine kX0_X0mix Γ Ξ hRm (by decide) (by decide) e23 (Nat.le_of_ble_eq_true rfl) dX0_mixWays_66 ?_
              refine A_iinc (v := x7 + 1) (lv' := [(2, .int (x7 + 1)), (3, .int ((8 * x3) + x7)), (0, .ref (xo X)), (1, .int x3)]) Γ dX0_mixWays_69 3 rfl rfl (by decide) rfl ?_
              refine A_goto (t := 12) Γ dX0_mixWays_72 (by decide) ?_
              exact A_sub [2, 3, 0] rfl (ihL5 _ _ (lpc2 eL5 hqL5))
        exact A_sub [1, 2, 0] rfl (hLL5 _ _ _ eLL5)
  exact A_sub [1, 0] rfl (hLL1 _ _ _ eLL1)
theorem mtX0_mixWays (l : Launch) (X : Xw) {σ σ' : St}   (h : c_mixWays σ = some σ') : MetZ 0 l X yX0_mixWays cX0_mixWays 4 none 1 22 [.ref (xo X)] σ (none) σ' := MetZ.ofAt (by decide) (Nat.le_of_ble_eq_true rfl) (fun G _ Γ Ξ hR hret => wkX0_mixWays Γ Ξ hR h hret)
theorem kX0_X0mixWays {G : Gx} {X : Xw} {cc : ByteArray} {nL pc F LO : Nat} {σ σ' : St} {lv : List (Nat × Value)} {st : List Value} (Γ : Ok G RX0 cc nL) (Ξ : OkX 0 G X)   (hRm : Rm G F LO) (hf : 1 + 1 ≤ F) (hlo : 8 + (4 + 11) + 22 ≤ LO) (h : c_mixWays σ = some σ') (hW : (st.map fun v => v.category).sum ≤ 8) (d : decode cc pc = .ok (.invokevirtual 458, 3)) (kk : At G nL σ' lv (st) (pc + 3)) : At G nL σ lv (.ref (xo X) :: st) pc := A_callV Γ Ξ rfl rfl (mtX0_mixWays (gl G) X h) (lw_V q1057 q1059 qs30 q63 q1060) (n := 0) (by decide +kernel) (rm_ok hRm hf hlo) (rm_k hRm) rfl rfl hW d kk
set_option maxHeartbeats 4000000 in
set_option maxRecDepth 100000 in
theorem wkX0_digest {G : Gx} {X : Xw} {σ σ' : St}  (Γ : Ok G RX0 cX0_digest 4) (Ξ : OkX 0 G X) (hRm : Rm G 4 81) {r : Int64} (h : c_digest σ = some (r, σ')) (hret : ∀ (pc : Nat) (lv : List (Nat × Value)), retIs cX0_digest (some .long) (some (.long r)) pc → At G 4 σ' lv [.long r] pc) : At G 4 σ [(0, .ref (xo X))] [] 0 := by
  rw [c_digest] at h
  refine A_aload_n Γ dX0_digest_0 0 rfl ?_
  refine A_ldc2 (v := 17) Γ q1051 dX0_digest_1 ?_
  refine p0_61 Γ Ξ dX0_digest_4 ?_
  refine A_iconst (v := 0) Γ dX0_digest_7 (by decide) ?_
  refine A_istore_n (lv' := [(1, .int 0), (0, .ref (xo X))]) Γ dX0_digest_8 (by decide) rfl ?_
  replace h := b1 h
  obtain ⟨σ4, eLL1, h⟩ := h
  have hXL1 : At G 4 σ4 [(0, .ref (xo X))] [] 31 := by
    refine A_aload_n Γ dX0_digest_31 0 rfl ?_
    replace h := b1 h
    obtain ⟨σ10, e9, h⟩ := h
    refine kX0_X0mixWays Γ Ξ hRm (by decide) (by decide) e9 (Nat.le_of_ble_eq_true rfl) dX0_digest_32 ?_
    refine A_iconst (v := 0) Γ dX0_digest_35 (by decide) ?_
    refine A_istore_n (lv' := [(1, .int 0), (0, .ref (xo X))]) Γ dX0_digest_36 (by decide) rfl ?_
    replace h := b1 h
    obtain ⟨σ14, eLL11, h⟩ := h
    have hXL11 : At G 4 σ14 [(0, .ref (xo X))] [] 80 := by
      refine A_iconst (v := 0) Γ dX0_digest_80 (by decide) ?_
      refine A_istore_n (lv' := [(1, .int 0), (0, .ref (xo X))]) Γ dX0_digest_81 (by decide) rfl ?_
      replace h := b1 h
      obtain ⟨σ28, eLL25, h⟩ := h
      have hXL25 : At G 4 σ28 [(0, .ref (xo X))] [] 118 := by
        refine A_iconst (v := 0) Γ dX0_digest_118 (by decide) ?_
        refine A_istore_n (lv' := [(1, .int 0), (0, .ref (xo X))]) Γ dX0_digest_119 (by decide) rfl ?_
        replace h := b1 h
        obtain ⟨σ40, eLL37, h⟩ := h
        have hXL37 : At G 4 σ40 [(0, .ref (xo X))] [] 178 := by
          refine A_iconst (v := 0) Γ dX0_digest_178 (by decide) ?_
          refine A_istore_n (lv' := [(1, .int 0), (0, .ref (xo X))]) Γ dX0_digest_179 (by decide) rfl ?_
          replace h := b1 h
          obtain ⟨σ60, eLL57, h⟩ := h
          have hXL57 : At G 4 σ60 [(0, .ref (xo X))] [] 216 := by
            refine A_aload_n Γ dX0_digest_216 0 rfl ?_
            refine A_aload_n Γ dX0_digest_217 0 rfl ?_
            refine g0_20 Γ Ξ dX0_digest_218 ?_
            refine A_i2l Γ dX0_digest_221 ?_
            replace h := b1 h
            obtain ⟨σ70, e69, h⟩ := h
            refine kX0_X0mix Γ Ξ hRm (by decide) (by decide) e69 (Nat.le_of_ble_eq_true rfl) dX0_digest_222 ?_
            refine A_aload_n Γ dX0_digest_225 0 rfl ?_
            refine A_aload_n Γ dX0_digest_226 0 rfl ?_
            refine g0_21 Γ Ξ dX0_digest_227 ?_
            refine A_i2l Γ dX0_digest_230 ?_
            replace h := b1 h
            obtain ⟨σ72, e71, h⟩ := h
            refine kX0_X0mix Γ Ξ hRm (by decide) (by decide) e71 (Nat.le_of_ble_eq_true rfl) dX0_digest_231 ?_
            refine A_iconst (v := 0) Γ dX0_digest_234 (by decide) ?_
            refine A_istore_n (lv' := [(1, .int 0), (0, .ref (xo X))]) Γ dX0_digest_235 (by decide) rfl ?_
            replace h := b1 h
            obtain ⟨σ76, eLL73, h⟩ := h
            have hXL73 : At G 4 σ76 [(0, .ref (xo X))] [] 298 := by
              refine A_iconst (v := 0) Γ dX0_digest_298 (by decide) ?_
              refine A_istore_n (lv' := [(1, .int 0), (0, .ref (xo X))]) Γ dX0_digest_299 (by decide) rfl ?_
              replace h := b1 h
              obtain ⟨σ100, eLL97, h⟩ := h
              have hXL97 : At G 4 σ100 [(0, .ref (xo X))] [] 361 := by
                refine A_aload_n Γ dX0_digest_361 0 rfl ?_
                refine g0_61 Γ Ξ dX0_digest_362 ?_
                obtain ⟨rfl, rfl⟩ := inj2 h
                exact hret _ _ dX0_digest_365
              replace eLL97 := lq2_ex eLL97
              obtain ⟨nL97, eLL97⟩ := eLL97
              have hLL97 : ∀ (nL97 : Nat) (σ98 : St) (x99 : Int32), lpf2 (c_digest_L97) nL97 σ98 x99 = some σ100 → At G 4 σ98 [(0, .ref (xo X)), (1, .int x99)] [] 300 := by
                intro nL97
                induction nL97 with
                | zero => intro σ98 x99 eL97; exact (lpf2_0 eL97).elim
                | succ nL97 ihL97 =>
                  intro σ98 x99 eL97
                  replace eL97 := lpf2_s eL97
                  obtain ⟨qL97, eL97, hqL97⟩ := eL97
                  rw [c_digest_L97] at eL97
                  refine A_iload_n Γ dX0_digest_300 1 rfl ?_
                  refine A_iconst (v := 4) Γ dX0_digest_301 (by decide) ?_
                  refine A_icmp_ge (t := 361) Γ dX0_digest_302 (by decide) (fun c => ?_) (fun c => ?_)
                  · replace eL97 := it_t c eL97
                    obtain rfl := pr1 (lpx2 eL97 hqL97)
                    exact A_sub [0] rfl hXL97
                  · replace eL97 := it_f c eL97
                    refine A_aload_n Γ dX0_digest_305 0 rfl ?_
                    refine g0_6 Γ Ξ dX0_digest_306 ?_
                    refine A_iload_n Γ dX0_digest_309 1 rfl ?_
                    replace eL97 := b1 eL97
                    obtain ⟨k101, e102, eL97⟩ := eL97
                    refine A_texts Γ Ξ e102 dX0_digest_310 ?_
                    refine A_astoreO_n (lv' := [(0, .ref (xo X)), (1, .int x99)]) Γ dX0_digest_311 (by decide) (fun _ => rfl) ?_
                    refine A_aload_n Γ dX0_digest_312 1 rfl ?_
                    refine A_aloadO_n Γ dX0_digest_313 0 rfl ?_
                    replace eL97 := b1 eL97
                    obtain ⟨x105, eJ104, eL97⟩ := eL97
                    have hJJ104 : At G 4 σ98 [(0, .ref (xo X)), (1, .int x99), (2, va_rf (rk X σ98 (110 + k101)))] [.long x105, .ref (xo X)] 326 := by
                      replace eL97 := b1 eL97
                      obtain ⟨σ109, e108, eL97⟩ := eL97
                      refine kX0_X0mix Γ Ξ hRm (by decide) (by decide) e108 (Nat.le_of_ble_eq_true rfl) dX0_digest_326 ?_
                      refine A_iconst (v := 0) Γ dX0_digest_329 (by decide) ?_
                      refine A_istore_n (lv' := [(3, .int 0), (0, .ref (xo X)), (1, .int x99), (2, va_rf (rk X σ98 (110 + k101)))]) Γ dX0_digest_330 (by decide) (by rcases rf_or X σ98 (110 + k101) with h | h <;> rw [h] <;> rfl) ?_
                      replace eL97 := b1 eL97
                      obtain ⟨σ113, eLL110, eL97⟩ := eL97
                      have hXL110 : At G 4 σ113 [(0, .ref (xo X)), (1, .int x99)] [] 355 := by
                        refine A_iinc (v := x99 + 1) (lv' := [(1, .int (x99 + 1)), (0, .ref (xo X))]) Γ dX0_digest_355 1 rfl rfl (by decide) rfl ?_
                        refine A_goto (t := 300) Γ dX0_digest_358 (by decide) ?_
                        exact A_sub [1, 0] rfl (ihL97 _ _ (lpc2 eL97 hqL97))
                      replace eLL110 := lq2_ex eLL110
                      obtain ⟨nL110, eLL110⟩ := eLL110
                      have hLL110 : ∀ (nL110 : Nat) (σ111 : St) (x112 : Int32), lpf2 (c_digest_L110 σ98 k101) nL110 σ111 x112 = some σ113 → At G 4 σ111 [(0, .ref (xo X)), (1, .int x99), (2, va_rf (rk X σ98 (110 + k101))), (3, .int x112)] [] 331 := by
                        intro nL110
                        induction nL110 with
                        | zero => intro σ111 x112 eL110; exact (lpf2_0 eL110).elim
                        | succ nL110 ihL110 =>
                          intro σ111 x112 eL110
                          replace eL110 := lpf2_s eL110
                          obtain ⟨qL110, eL110, hqL110⟩ := eL110
                          rw [c_digest_L110] at eL110
                          refine A_aloadO_n Γ dX0_digest_331 2 rfl ?_
                          refine A_ifnull (t := 355) Γ dX0_digest_332 (by decide) (fun cn114 => ?_) (fun cn114 => ?_)
                          · replace eL110 := it_f cn114 eL110
                            obtain rfl := pr1 (lpx2 eL110 hqL110)
                            exact A_sub [0, 1] rfl hXL110
                          · replace eL110 := it_t cn114 eL110
                            refine A_iload_n Γ dX0_digest_335 3 rfl ?_
                            refine A_aloadO_n Γ dX0_digest_336 2 rfl ?_
                            replace eL110 := b1 eL110
                            obtain ⟨n115, e116, eL110⟩ := eL110
                            refine A_alenD Γ Ξ (Or.inr (kByte_text e102)) (rk_t cn114) e116 dX0_digest_337 ?_
                            refine A_icmp_ge (t := 355) Γ dX0_digest_338 (by decide) (fun c => ?_) (fun c => ?_)
                            · replace eL110 := it_t c eL110
                              obtain rfl := pr1 (lpx2 eL110 hqL110)
                              exact A_sub [0, 1] rfl hXL110
                            · replace eL110 := it_f c eL110
                              refine A_aload_n Γ dX0_digest_341 0 rfl ?_
                              refine A_aloadO_n Γ dX0_digest_342 2 rfl ?_
                              refine A_iload_n Γ dX0_digest_343 3 rfl ?_
                              replace eL110 := b1 eL110
                              obtain ⟨v117, e118, eL110⟩ := eL110
                              refine A_baldD Γ Ξ (kByte_text e102) (rk_t cn114) e118 dX0_digest_344 ?_
                              refine A_i2l Γ dX0_digest_345 ?_
                              replace eL110 := b1 eL110
                              obtain ⟨σ120, e119, eL110⟩ := eL110
                              refine kX0_X0mix Γ Ξ hRm (by decide) (by decide) e119 (Nat.le_of_ble_eq_true rfl) dX0_digest_346 ?_
                              refine A_iinc (v := x112 + 1) (lv' := [(3, .int (x112 + 1)), (0, .ref (xo X)), (1, .int x99), (2, va_rf (rk X σ98 (110 + k101)))]) Γ dX0_digest_349 3 rfl rfl (by decide) (by rcases rf_or X σ98 (110 + k101) with h | h <;> rw [h] <;> rfl) ?_
                              refine A_goto (t := 331) Γ dX0_digest_352 (by decide) ?_
                              exact A_sub [1, 2, 3, 0] rfl (ihL110 _ _ (lpc2 eL110 hqL110))
                      exact A_sub [1, 2, 3, 0] rfl (hLL110 _ _ _ eLL110)
                    refine A_ifnonnull (t := 323) Γ dX0_digest_314 (by decide) (fun cn103 => ?_) (fun cn103 => ?_)
                    · replace eJ104 := it_t cn103 eJ104
                      refine A_aloadO_n Γ dX0_digest_323 0 rfl ?_
                      replace eJ104 := b1 eJ104
                      obtain ⟨n106, e107, eJ104⟩ := eJ104
                      refine A_alenD Γ Ξ (Or.inr (kByte_text e102)) (rk_t cn103) e107 dX0_digest_324 ?_
                      refine A_i2l Γ dX0_digest_325 ?_
                      obtain rfl := inj1 eJ104
                      exact A_sub [1, 2, 0] rfl hJJ104
                    · replace eJ104 := it_f cn103 eJ104
                      refine A_ldc2 (v := (-1)) Γ q1061 dX0_digest_317 ?_
                      refine A_goto (t := 326) Γ dX0_digest_320 (by decide) ?_
                      obtain rfl := inj1 eJ104
                      exact A_sub [1, 2, 0] rfl hJJ104
              exact A_sub [1, 0] rfl (hLL97 _ _ _ eLL97)
            replace eLL73 := lq2_ex eLL73
            obtain ⟨nL73, eLL73⟩ := eLL73
            have hLL73 : ∀ (nL73 : Nat) (σ74 : St) (x75 : Int32), lpf2 (c_digest_L73) nL73 σ74 x75 = some σ76 → At G 4 σ74 [(0, .ref (xo X)), (1, .int x75)] [] 236 := by
              intro nL73
              induction nL73 with
              | zero => intro σ74 x75 eL73; exact (lpf2_0 eL73).elim
              | succ nL73 ihL73 =>
                intro σ74 x75 eL73
                replace eL73 := lpf2_s eL73
                obtain ⟨qL73, eL73, hqL73⟩ := eL73
                rw [c_digest_L73] at eL73
                refine A_iload_n Γ dX0_digest_236 1 rfl ?_
                refine A_bipush (v := 6) Γ dX0_digest_237 (by decide) ?_
                refine A_icmp_ge (t := 298) Γ dX0_digest_239 (by decide) (fun c => ?_) (fun c => ?_)
                · replace eL73 := it_t c eL73
                  obtain rfl := pr1 (lpx2 eL73 hqL73)
                  exact A_sub [0] rfl hXL73
                · replace eL73 := it_f c eL73
                  refine A_aload_n Γ dX0_digest_242 0 rfl ?_
                  refine g0_5 Γ Ξ dX0_digest_243 ?_
                  refine A_iload_n Γ dX0_digest_246 1 rfl ?_
                  replace eL73 := b1 eL73
                  obtain ⟨k77, e78, eL73⟩ := eL73
                  refine A_rows Γ Ξ e78 dX0_digest_247 ?_
                  refine A_astoreO_n (lv' := [(0, .ref (xo X)), (1, .int x75)]) Γ dX0_digest_248 (by decide) (fun _ => rfl) ?_
                  refine A_aload_n Γ dX0_digest_249 1 rfl ?_
                  refine A_aloadO_n Γ dX0_digest_250 0 rfl ?_
                  replace eL73 := b1 eL73
                  obtain ⟨x81, eJ80, eL73⟩ := eL73
                  have hJJ80 : At G 4 σ74 [(0, .ref (xo X)), (1, .int x75), (2, va_rf (rk X σ74 (100 + k77)))] [.long x81, .ref (xo X)] 263 := by
                    replace eL73 := b1 eL73
                    obtain ⟨σ85, e84, eL73⟩ := eL73
                    refine kX0_X0mix Γ Ξ hRm (by decide) (by decide) e84 (Nat.le_of_ble_eq_true rfl) dX0_digest_263 ?_
                    refine A_iconst (v := 0) Γ dX0_digest_266 (by decide) ?_
                    refine A_istore_n (lv' := [(3, .int 0), (0, .ref (xo X)), (1, .int x75), (2, va_rf (rk X σ74 (100 + k77)))]) Γ dX0_digest_267 (by decide) (by rcases rf_or X σ74 (100 + k77) with h | h <;> rw [h] <;> rfl) ?_
                    replace eL73 := b1 eL73
                    obtain ⟨σ89, eLL86, eL73⟩ := eL73
                    have hXL86 : At G 4 σ89 [(0, .ref (xo X)), (1, .int x75)] [] 292 := by
                      refine A_iinc (v := x75 + 1) (lv' := [(1, .int (x75 + 1)), (0, .ref (xo X))]) Γ dX0_digest_292 1 rfl rfl (by decide) rfl ?_
                      refine A_goto (t := 236) Γ dX0_digest_295 (by decide) ?_
                      exact A_sub [1, 0] rfl (ihL73 _ _ (lpc2 eL73 hqL73))
                    replace eLL86 := lq2_ex eLL86
                    obtain ⟨nL86, eLL86⟩ := eLL86
                    have hLL86 : ∀ (nL86 : Nat) (σ87 : St) (x88 : Int32), lpf2 (c_digest_L86 σ74 k77) nL86 σ87 x88 = some σ89 → At G 4 σ87 [(0, .ref (xo X)), (1, .int x75), (2, va_rf (rk X σ74 (100 + k77))), (3, .int x88)] [] 268 := by
                      intro nL86
                      induction nL86 with
                      | zero => intro σ87 x88 eL86; exact (lpf2_0 eL86).elim
                      | succ nL86 ihL86 =>
                        intro σ87 x88 eL86
                        replace eL86 := lpf2_s eL86
                        obtain ⟨qL86, eL86, hqL86⟩ := eL86
                        rw [c_digest_L86] at eL86
                        refine A_aloadO_n Γ dX0_digest_268 2 rfl ?_
                        refine A_ifnull (t := 292) Γ dX0_digest_269 (by decide) (fun cn90 => ?_) (fun cn90 => ?_)
                        · replace eL86 := it_f cn90 eL86
                          obtain rfl := pr1 (lpx2 eL86 hqL86)
                          exact A_sub [0, 1] rfl hXL86
                        · replace eL86 := it_t cn90 eL86
                          refine A_iload_n Γ dX0_digest_272 3 rfl ?_
                          refine A_aloadO_n Γ dX0_digest_273 2 rfl ?_
                          replace eL86 := b1 eL86
                          obtain ⟨n91, e92, eL86⟩ := eL86
                          refine A_alenD Γ Ξ (Or.inl (kInt_row e78)) (rk_t cn90) e92 dX0_digest_274 ?_
                          refine A_icmp_ge (t := 292) Γ dX0_digest_275 (by decide) (fun c => ?_) (fun c => ?_)
                          · replace eL86 := it_t c eL86
                            obtain rfl := pr1 (lpx2 eL86 hqL86)
                            exact A_sub [0, 1] rfl hXL86
                          · replace eL86 := it_f c eL86
                            refine A_aload_n Γ dX0_digest_278 0 rfl ?_
                            refine A_aloadO_n Γ dX0_digest_279 2 rfl ?_
                            refine A_iload_n Γ dX0_digest_280 3 rfl ?_
                            replace eL86 := b1 eL86
                            obtain ⟨v93, e94, eL86⟩ := eL86
                            refine A_aldD Γ Ξ (kInt_row e78) (rk_t cn90) e94 dX0_digest_281 ?_
                            refine A_i2l Γ dX0_digest_282 ?_
                            replace eL86 := b1 eL86
                            obtain ⟨σ96, e95, eL86⟩ := eL86
                            refine kX0_X0mix Γ Ξ hRm (by decide) (by decide) e95 (Nat.le_of_ble_eq_true rfl) dX0_digest_283 ?_
                            refine A_iinc (v := x88 + 1) (lv' := [(3, .int (x88 + 1)), (0, .ref (xo X)), (1, .int x75), (2, va_rf (rk X σ74 (100 + k77)))]) Γ dX0_digest_286 3 rfl rfl (by decide) (by rcases rf_or X σ74 (100 + k77) with h | h <;> rw [h] <;> rfl) ?_
                            refine A_goto (t := 268) Γ dX0_digest_289 (by decide) ?_
                            exact A_sub [1, 2, 3, 0] rfl (ihL86 _ _ (lpc2 eL86 hqL86))
                    exact A_sub [1, 2, 3, 0] rfl (hLL86 _ _ _ eLL86)
                  refine A_ifnonnull (t := 260) Γ dX0_digest_251 (by decide) (fun cn79 => ?_) (fun cn79 => ?_)
                  · replace eJ80 := it_t cn79 eJ80
                    refine A_aloadO_n Γ dX0_digest_260 0 rfl ?_
                    replace eJ80 := b1 eJ80
                    obtain ⟨n82, e83, eJ80⟩ := eJ80
                    refine A_alenD Γ Ξ (Or.inl (kInt_row e78)) (rk_t cn79) e83 dX0_digest_261 ?_
                    refine A_i2l Γ dX0_digest_262 ?_
                    obtain rfl := inj1 eJ80
                    exact A_sub [1, 2, 0] rfl hJJ80
                  · replace eJ80 := it_f cn79 eJ80
                    refine A_ldc2 (v := (-1)) Γ q1061 dX0_digest_254 ?_
                    refine A_goto (t := 263) Γ dX0_digest_257 (by decide) ?_
                    obtain rfl := inj1 eJ80
                    exact A_sub [1, 2, 0] rfl hJJ80
            exact A_sub [1, 0] rfl (hLL73 _ _ _ eLL73)
          replace eLL57 := lq2_ex eLL57
          obtain ⟨nL57, eLL57⟩ := eLL57
          have hLL57 : ∀ (nL57 : Nat) (σ58 : St) (x59 : Int32), lpf2 (c_digest_L57) nL57 σ58 x59 = some σ60 → At G 4 σ58 [(0, .ref (xo X)), (1, .int x59)] [] 180 := by
            intro nL57
            induction nL57 with
            | zero => intro σ58 x59 eL57; exact (lpf2_0 eL57).elim
            | succ nL57 ihL57 =>
              intro σ58 x59 eL57
              replace eL57 := lpf2_s eL57
              obtain ⟨qL57, eL57, hqL57⟩ := eL57
              rw [c_digest_L57] at eL57
              refine A_iload_n Γ dX0_digest_180 1 rfl ?_
              refine A_aload_n Γ dX0_digest_181 0 rfl ?_
              refine g0_33 Γ Ξ dX0_digest_182 ?_
              refine A_icmp_ge (t := 216) Γ dX0_digest_185 (by decide) (fun c => ?_) (fun c => ?_)
              · replace eL57 := it_t c eL57
                obtain rfl := pr1 (lpx2 eL57 hqL57)
                exact A_sub [0] rfl hXL57
              · replace eL57 := it_f c eL57
                refine A_aload_n Γ dX0_digest_188 0 rfl ?_
                refine A_aload_n Γ dX0_digest_189 0 rfl ?_
                refine g0_34 Γ Ξ dX0_digest_190 ?_
                refine A_iload_n Γ dX0_digest_193 1 rfl ?_
                replace eL57 := b1 eL57
                obtain ⟨v61, e62, eL57⟩ := eL57
                refine r0_34 Γ Ξ e62 dX0_digest_194 ?_
                refine A_i2l Γ dX0_digest_195 ?_
                replace eL57 := b1 eL57
                obtain ⟨σ64, e63, eL57⟩ := eL57
                refine kX0_X0mix Γ Ξ hRm (by decide) (by decide) e63 (Nat.le_of_ble_eq_true rfl) dX0_digest_196 ?_
                refine A_aload_n Γ dX0_digest_199 0 rfl ?_
                refine A_aload_n Γ dX0_digest_200 0 rfl ?_
                refine g0_35 Γ Ξ dX0_digest_201 ?_
                refine A_iload_n Γ dX0_digest_204 1 rfl ?_
                replace eL57 := b1 eL57
                obtain ⟨v65, e66, eL57⟩ := eL57
                refine r0_35 Γ Ξ e66 dX0_digest_205 ?_
                refine A_i2l Γ dX0_digest_206 ?_
                replace eL57 := b1 eL57
                obtain ⟨σ68, e67, eL57⟩ := eL57
                refine kX0_X0mix Γ Ξ hRm (by decide) (by decide) e67 (Nat.le_of_ble_eq_true rfl) dX0_digest_207 ?_
                refine A_iinc (v := x59 + 1) (lv' := [(1, .int (x59 + 1)), (0, .ref (xo X))]) Γ dX0_digest_210 1 rfl rfl (by decide) rfl ?_
                refine A_goto (t := 180) Γ dX0_digest_213 (by decide) ?_
                exact A_sub [1, 0] rfl (ihL57 _ _ (lpc2 eL57 hqL57))
          exact A_sub [1, 0] rfl (hLL57 _ _ _ eLL57)
        replace eLL37 := lq2_ex eLL37
        obtain ⟨nL37, eLL37⟩ := eLL37
        have hLL37 : ∀ (nL37 : Nat) (σ38 : St) (x39 : Int32), lpf2 (c_digest_L37) nL37 σ38 x39 = some σ40 → At G 4 σ38 [(0, .ref (xo X)), (1, .int x39)] [] 120 := by
          intro nL37
          induction nL37 with
          | zero => intro σ38 x39 eL37; exact (lpf2_0 eL37).elim
          | succ nL37 ihL37 =>
            intro σ38 x39 eL37
            replace eL37 := lpf2_s eL37
            obtain ⟨qL37, eL37, hqL37⟩ := eL37
            rw [c_digest_L37] at eL37
            refine A_iload_n Γ dX0_digest_120 1 rfl ?_
            refine A_aload_n Γ dX0_digest_121 0 rfl ?_
            refine g0_22 Γ Ξ dX0_digest_122 ?_
            refine A_icmp_ge (t := 178) Γ dX0_digest_125 (by decide) (fun c => ?_) (fun c => ?_)
            · replace eL37 := it_t c eL37
              obtain rfl := pr1 (lpx2 eL37 hqL37)
              exact A_sub [0] rfl hXL37
            · replace eL37 := it_f c eL37
              refine A_aload_n Γ dX0_digest_128 0 rfl ?_
              refine A_aload_n Γ dX0_digest_129 0 rfl ?_
              refine g0_23 Γ Ξ dX0_digest_130 ?_
              refine A_iload_n Γ dX0_digest_133 1 rfl ?_
              replace eL37 := b1 eL37
              obtain ⟨v41, e42, eL37⟩ := eL37
              refine r0_23 Γ Ξ e42 dX0_digest_134 ?_
              refine A_i2l Γ dX0_digest_135 ?_
              replace eL37 := b1 eL37
              obtain ⟨σ44, e43, eL37⟩ := eL37
              refine kX0_X0mix Γ Ξ hRm (by decide) (by decide) e43 (Nat.le_of_ble_eq_true rfl) dX0_digest_136 ?_
              refine A_aload_n Γ dX0_digest_139 0 rfl ?_
              refine A_aload_n Γ dX0_digest_140 0 rfl ?_
              refine g0_24 Γ Ξ dX0_digest_141 ?_
              refine A_iload_n Γ dX0_digest_144 1 rfl ?_
              replace eL37 := b1 eL37
              obtain ⟨v45, e46, eL37⟩ := eL37
              refine r0_24 Γ Ξ e46 dX0_digest_145 ?_
              refine A_i2l Γ dX0_digest_146 ?_
              replace eL37 := b1 eL37
              obtain ⟨σ48, e47, eL37⟩ := eL37
              refine kX0_X0mix Γ Ξ hRm (by decide) (by decide) e47 (Nat.le_of_ble_eq_true rfl) dX0_digest_147 ?_
              refine A_aload_n Γ dX0_digest_150 0 rfl ?_
              refine A_aload_n Γ dX0_digest_151 0 rfl ?_
              refine g0_25 Γ Ξ dX0_digest_152 ?_
              refine A_iload_n Γ dX0_digest_155 1 rfl ?_
              replace eL37 := b1 eL37
              obtain ⟨v49, e50, eL37⟩ := eL37
              refine r0_25 Γ Ξ e50 dX0_digest_156 ?_
              refine A_i2l Γ dX0_digest_157 ?_
              replace eL37 := b1 eL37
              obtain ⟨σ52, e51, eL37⟩ := eL37
              refine kX0_X0mix Γ Ξ hRm (by decide) (by decide) e51 (Nat.le_of_ble_eq_true rfl) dX0_digest_158 ?_
              refine A_aload_n Γ dX0_digest_161 0 rfl ?_
              refine A_aload_n Γ dX0_digest_162 0 rfl ?_
              refine g0_26 Γ Ξ dX0_digest_163 ?_
              refine A_iload_n Γ dX0_digest_166 1 rfl ?_
              replace eL37 := b1 eL37
              obtain ⟨v53, e54, eL37⟩ := eL37
              refine r0_26 Γ Ξ e54 dX0_digest_167 ?_
              refine A_i2l Γ dX0_digest_168 ?_
              replace eL37 := b1 eL37
              obtain ⟨σ56, e55, eL37⟩ := eL37
              refine kX0_X0mix Γ Ξ hRm (by decide) (by decide) e55 (Nat.le_of_ble_eq_true rfl) dX0_digest_169 ?_
              refine A_iinc (v := x39 + 1) (lv' := [(1, .int (x39 + 1)), (0, .ref (xo X))]) Γ dX0_digest_172 1 rfl rfl (by decide) rfl ?_
              refine A_goto (t := 120) Γ dX0_digest_175 (by decide) ?_
              exact A_sub [1, 0] rfl (ihL37 _ _ (lpc2 eL37 hqL37))
        exact A_sub [1, 0] rfl (hLL37 _ _ _ eLL37)
      replace eLL25 := lq2_ex eLL25
      obtain ⟨nL25, eLL25⟩ := eLL25
      have hLL25 : ∀ (nL25 : Nat) (σ26 : St) (x27 : Int32), lpf2 (c_digest_L25) nL25 σ26 x27 = some σ28 → At G 4 σ26 [(0, .ref (xo X)), (1, .int x27)] [] 82 := by
        intro nL25
        induction nL25 with
        | zero => intro σ26 x27 eL25; exact (lpf2_0 eL25).elim
        | succ nL25 ihL25 =>
          intro σ26 x27 eL25
          replace eL25 := lpf2_s eL25
          obtain ⟨qL25, eL25, hqL25⟩ := eL25
          rw [c_digest_L25] at eL25
          refine A_iload_n Γ dX0_digest_82 1 rfl ?_
          refine A_bipush (v := 6) Γ dX0_digest_83 (by decide) ?_
          refine A_icmp_ge (t := 118) Γ dX0_digest_85 (by decide) (fun c => ?_) (fun c => ?_)
          · replace eL25 := it_t c eL25
            obtain rfl := pr1 (lpx2 eL25 hqL25)
            exact A_sub [0] rfl hXL25
          · replace eL25 := it_f c eL25
            refine A_iconst (v := 0) Γ dX0_digest_88 (by decide) ?_
            refine A_istore_n (lv' := [(2, .int 0), (0, .ref (xo X)), (1, .int x27)]) Γ dX0_digest_89 (by decide) rfl ?_
            replace eL25 := b1 eL25
            obtain ⟨σ32, eLL29, eL25⟩ := eL25
            have hXL29 : At G 4 σ32 [(0, .ref (xo X)), (1, .int x27)] [] 112 := by
              refine A_iinc (v := x27 + 1) (lv' := [(1, .int (x27 + 1)), (0, .ref (xo X))]) Γ dX0_digest_112 1 rfl rfl (by decide) rfl ?_
              refine A_goto (t := 82) Γ dX0_digest_115 (by decide) ?_
              exact A_sub [1, 0] rfl (ihL25 _ _ (lpc2 eL25 hqL25))
            replace eLL29 := lq2_ex eLL29
            obtain ⟨nL29, eLL29⟩ := eLL29
            have hLL29 : ∀ (nL29 : Nat) (σ30 : St) (x31 : Int32), lpf2 (c_digest_L29 x27) nL29 σ30 x31 = some σ32 → At G 4 σ30 [(0, .ref (xo X)), (1, .int x27), (2, .int x31)] [] 90 := by
              intro nL29
              induction nL29 with
              | zero => intro σ30 x31 eL29; exact (lpf2_0 eL29).elim
              | succ nL29 ihL29 =>
                intro σ30 x31 eL29
                replace eL29 := lpf2_s eL29
                obtain ⟨qL29, eL29, hqL29⟩ := eL29
                rw [c_digest_L29] at eL29
                refine A_iload_n Γ dX0_digest_90 2 rfl ?_
                refine A_iconst (v := 5) Γ dX0_digest_91 (by decide) ?_
                refine A_icmp_ge (t := 112) Γ dX0_digest_92 (by decide) (fun c => ?_) (fun c => ?_)
                · replace eL29 := it_t c eL29
                  obtain rfl := pr1 (lpx2 eL29 hqL29)
                  exact A_sub [0, 1] rfl hXL29
                · replace eL29 := it_f c eL29
                  refine A_aload_n Γ dX0_digest_95 0 rfl ?_
                  refine A_aload_n Γ dX0_digest_96 0 rfl ?_
                  refine A_iload_n Γ dX0_digest_97 1 rfl ?_
                  refine A_iload_n Γ dX0_digest_98 2 rfl ?_
                  replace eL29 := b1 eL29
                  obtain ⟨v34, e33, eL29⟩ := eL29
                  refine kX0_X0tractorTells Γ Ξ hRm (by decide) (by decide) e33 (Nat.le_of_ble_eq_true rfl) dX0_digest_99 ?_
                  refine A_i2l Γ dX0_digest_102 ?_
                  replace eL29 := b1 eL29
                  obtain ⟨σ36, e35, eL29⟩ := eL29
                  refine kX0_X0mix Γ Ξ hRm (by decide) (by decide) e35 (Nat.le_of_ble_eq_true rfl) dX0_digest_103 ?_
                  refine A_iinc (v := x31 + 1) (lv' := [(2, .int (x31 + 1)), (0, .ref (xo X)), (1, .int x27)]) Γ dX0_digest_106 2 rfl rfl (by decide) rfl ?_
                  refine A_goto (t := 90) Γ dX0_digest_109 (by decide) ?_
                  exact A_sub [1, 2, 0] rfl (ihL29 _ _ (lpc2 eL29 hqL29))
            exact A_sub [1, 2, 0] rfl (hLL29 _ _ _ eLL29)
      exact A_sub [1, 0] rfl (hLL25 _ _ _ eLL25)
    replace eLL11 := lq2_ex eLL11
    obtain ⟨nL11, eLL11⟩ := eLL11
    have hLL11 : ∀ (nL11 : Nat) (σ12 : St) (x13 : Int32), lpf2 (c_digest_L11) nL11 σ12 x13 = some σ14 → At G 4 σ12 [(0, .ref (xo X)), (1, .int x13)] [] 37 := by
      intro nL11
      induction nL11 with
      | zero => intro σ12 x13 eL11; exact (lpf2_0 eL11).elim
      | succ nL11 ihL11 =>
        intro σ12 x13 eL11
        replace eL11 := lpf2_s eL11
        obtain ⟨qL11, eL11, hqL11⟩ := eL11
        rw [c_digest_L11] at eL11
        refine A_iload_n Γ dX0_digest_37 1 rfl ?_
        refine A_aload_n Γ dX0_digest_38 0 rfl ?_
        refine g0_19 Γ Ξ dX0_digest_39 ?_
        refine A_icmp_ge (t := 80) Γ dX0_digest_42 (by decide) (fun c => ?_) (fun c => ?_)
        · replace eL11 := it_t c eL11
          obtain rfl := pr1 (lpx2 eL11 hqL11)
          exact A_sub [0] rfl hXL11
        · replace eL11 := it_f c eL11
          refine A_iconst (v := 0) Γ dX0_digest_45 (by decide) ?_
          refine A_istore_n (lv' := [(2, .int 0), (0, .ref (xo X)), (1, .int x13)]) Γ dX0_digest_46 (by decide) rfl ?_
          replace eL11 := b1 eL11
          obtain ⟨σ18, eLL15, eL11⟩ := eL11
          have hXL15 : At G 4 σ18 [(0, .ref (xo X)), (1, .int x13)] [] 74 := by
            refine A_iinc (v := x13 + 1) (lv' := [(1, .int (x13 + 1)), (0, .ref (xo X))]) Γ dX0_digest_74 1 rfl rfl (by decide) rfl ?_
            refine A_goto (t := 37) Γ dX0_digest_77 (by decide) ?_
            exact A_sub [1, 0] rfl (ihL11 _ _ (lpc2 eL11 hqL11))
          replace eLL15 := lq2_ex eLL15
          obtain ⟨nL15, eLL15⟩ := eLL15
          have hLL15 : ∀ (nL15 : Nat) (σ16 : St) (x17 : Int32), lpf2 (c_digest_L15 x13) nL15 σ16 x17 = some σ18 → At G 4 σ16 [(0, .ref (xo X)), (1, .int x13), (2, .int x17)] [] 47 := by
            intro nL15
            induction nL15 with
            | zero => intro σ16 x17 eL15; exact (lpf2_0 eL15).elim
            | succ nL15 ihL15 =>
              intro σ16 x17 eL15
              replace eL15 := lpf2_s eL15
              obtain ⟨qL15, eL15, hqL15⟩ := eL15
              rw [c_digest_L15] at eL15
              refine A_iload_n Γ dX0_digest_47 2 rfl ?_
              refine A_bipush (v := 8) Γ dX0_digest_48 (by decide) ?_
              refine A_icmp_ge (t := 74) Γ dX0_digest_50 (by decide) (fun c => ?_) (fun c => ?_)
              · replace eL15 := it_t c eL15
                obtain rfl := pr1 (lpx2 eL15 hqL15)
                exact A_sub [0, 1] rfl hXL15
              · replace eL15 := it_f c eL15
                refine A_aload_n Γ dX0_digest_53 0 rfl ?_
                refine A_aload_n Γ dX0_digest_54 0 rfl ?_
                refine g0_18 Γ Ξ dX0_digest_55 ?_
                refine A_iload_n Γ dX0_digest_58 1 rfl ?_
                replace eL15 := b1 eL15
                obtain ⟨k19, e20, eL15⟩ := eL15
                refine A_trsD Γ Ξ e20 dX0_digest_59 ?_
                refine A_iload_n Γ dX0_digest_60 2 rfl ?_
                replace eL15 := b1 eL15
                obtain ⟨v22, e21, eL15⟩ := eL15
                refine kX0_X0tells Γ Ξ hRm (by decide) (by decide) (kTr_tD e20) e21 (Nat.le_of_ble_eq_true rfl) dX0_digest_61 ?_
                refine A_i2l Γ dX0_digest_64 ?_
                replace eL15 := b1 eL15
                obtain ⟨σ24, e23, eL15⟩ := eL15
                refine kX0_X0mix Γ Ξ hRm (by decide) (by decide) e23 (Nat.le_of_ble_eq_true rfl) dX0_digest_65 ?_
                refine A_iinc (v := x17 + 1) (lv' := [(2, .int (x17 + 1)), (0, .ref (xo X)), (1, .int x13)]) Γ dX0_digest_68 2 rfl rfl (by decide) rfl ?_
                refine A_goto (t := 47) Γ dX0_digest_71 (by decide) ?_
                exact A_sub [1, 2, 0] rfl (ihL15 _ _ (lpc2 eL15 hqL15))
          exact A_sub [1, 2, 0] rfl (hLL15 _ _ _ eLL15)
    exact A_sub [1, 0] rfl (hLL11 _ _ _ eLL11)
  replace eLL1 := lq2_ex eLL1
  obtain ⟨nL1, eLL1⟩ := eLL1
  have hLL1 : ∀ (nL1 : Nat) (σ2 : St) (x3 : Int32), lpf2 (c_digest_L1) nL1 σ2 x3 = some σ4 → At G 4 σ2 [(0, .ref (xo X)), (1, .int x3)] [] 9 := by
    intro nL1
    induction nL1 with
    | zero => intro σ2 x3 eL1; exact (lpf2_0 eL1).elim
    | succ nL1 ihL1 =>
      intro σ2 x3 eL1
      replace eL1 := lpf2_s eL1
      obtain ⟨qL1, eL1, hqL1⟩ := eL1
      rw [c_digest_L1] at eL1
      refine A_iload_n Γ dX0_digest_9 1 rfl ?_
      refine A_bipush (v := 8) Γ dX0_digest_10 (by decide) ?_
      refine A_icmp_ge (t := 31) Γ dX0_digest_12 (by decide) (fun c => ?_) (fun c => ?_)
      · replace eL1 := it_t c eL1
        obtain rfl := pr1 (lpx2 eL1 hqL1)
        exact A_sub [0] rfl hXL1
      · replace eL1 := it_f c eL1
        refine A_aload_n Γ dX0_digest_15 0 rfl ?_
        refine A_aload_n Γ dX0_digest_16 0 rfl ?_
        refine A_iload_n Γ dX0_digest_17 1 rfl ?_
        replace eL1 := b1 eL1
        obtain ⟨v6, e5, eL1⟩ := eL1
        refine kX0_X0counted Γ Ξ hRm (by decide) (by decide) e5 (Nat.le_of_ble_eq_true rfl) dX0_digest_18 ?_
        refine A_i2l Γ dX0_digest_21 ?_
        replace eL1 := b1 eL1
        obtain ⟨σ8, e7, eL1⟩ := eL1
        refine kX0_X0mix Γ Ξ hRm (by decide) (by decide) e7 (Nat.le_of_ble_eq_true rfl) dX0_digest_22 ?_
        refine A_iinc (v := x3 + 1) (lv' := [(1, .int (x3 + 1)), (0, .ref (xo X))]) Γ dX0_digest_25 1 rfl rfl (by decide) rfl ?_
        refine A_goto (t := 9) Γ dX0_digest_28 (by decide) ?_
        exact A_sub [1, 0] rfl (ihL1 _ _ (lpc2 eL1 hqL1))
  exact A_sub [1, 0] rfl (hLL1 _ _ _ eLL1)
theorem mtX0_digest (l : Launch) (X : Xw) {σ σ' : St}  {r : Int64} (h : c_digest σ = some (r, σ')) : MetZ 0 l X yX0_digest cX0_digest 4 (some .long) 4 81 [.ref (xo X)] σ (some (.long r)) σ' := MetZ.ofAt (by decide) (Nat.le_of_ble_eq_true rfl) (fun G _ Γ Ξ hR hret => wkX0_digest Γ Ξ hR h hret)

