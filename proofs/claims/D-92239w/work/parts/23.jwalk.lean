set_option maxHeartbeats 4000000 in
set_option maxRecDepth 100000 in
theorem wkJ8_abs {G : Gx} {X : Xw} {σ : St} {a0 : Int64} (Γ : Ok G RJ8 cJ8_abs 2) (hkp : ∀ (H H1 : Heap), gP G σ H → (∀ q : Nat, q < H.size → H1[q]? = H[q]?) → gP G σ H1) (hRm : Rm G 0 0) {r : Int64} (h : j_abs a0 = some r) (hret : ∀ (pc : Nat) (lv : List (Nat × Value)), retIs cJ8_abs (some .long) (some (.long r)) pc → At G 2 σ lv [.long r] pc) : At G 2 σ [(0, .long a0)] [] 0 := by
  rw [j_abs] at h
  refine A_lload_n Γ dJ8_abs_0 0 rfl ?_
  refine A_lconst (v := 0) Γ dJ8_abs_1 (by decide) ?_
  refine A_lcmp Γ dJ8_abs_2 ?_
  replace h := b1 h
  obtain ⟨x2, eJ1, h⟩ := h
  have hJJ1 : At G 2 σ [] [.long x2] 12 := by
    obtain rfl := inj1 h
    exact hret _ _ dJ8_abs_12
  refine A_if_ge (t := 11) Γ dJ8_abs_3 (by decide) (fun c => ?_) (fun c => ?_)
  · replace eJ1 := it_t c eJ1
    refine A_lload_n Γ dJ8_abs_11 0 rfl ?_
    obtain rfl := inj1 eJ1
    exact A_sub [] rfl hJJ1
  · replace eJ1 := it_f c eJ1
    refine A_lload_n Γ dJ8_abs_6 0 rfl ?_
    refine A_lneg Γ dJ8_abs_7 ?_
    refine A_goto (t := 12) Γ dJ8_abs_8 (by decide) ?_
    obtain rfl := inj1 eJ1
    exact A_sub [] rfl hJJ1
theorem mtJ8_abs (l : Launch) {a0 : Int64} {r : Int64} (h : j_abs a0 = some r) : MetS l yJ8_abs cJ8_abs 2 (some .long) 0 0 [.long a0] (some (.long r)) := MetS.ofAtF ((fun _ => 0), (fun _ => 0), (fun _ _ => 0), (fun _ _ => 0), fun _ => none) (by decide +kernel) (Nat.le_of_ble_eq_true rfl) (fun G _ Γ hR hp hret => wkJ8_abs (X := (0, (fun _ => 0), (fun _ => 0), (fun _ _ => 0), (fun _ => 0), (fun _ => True))) Γ hp hR h hret)
theorem kX0_J8abs {G : Gx} {cc : ByteArray} {nL pc F LO : Nat} {σ : St} {lv : List (Nat × Value)} {st : List Value} (Γ : Ok G RX0 cc nL) (hkp : ∀ (H H1 : Heap), gP G σ H → (∀ q : Nat, q < H.size → H1[q]? = H[q]?) → gP G σ H1) {a0 : Int64} {r : Int64} (hRm : Rm G F LO) (hf : 0 + 1 ≤ F) (hlo : 8 + (2 + 11) + 0 ≤ LO) (h : j_abs a0 = some r) (hW : (st.map fun v => v.category).sum ≤ 8) (d : decode cc pc = .ok (.invokestatic 162, 3)) (kk : At G nL σ lv (.long r :: st) (pc + 3)) : At G nL σ lv (.long a0 :: st) pc := A_callS Γ hkp rfl (mtJ8_abs (gl G) h) (lw_S q871 q872 q74 q873) (n := 1) (by decide +kernel) (rm_ok hRm hf hlo) (rm_k hRm) rfl rfl hW d kk
set_option maxHeartbeats 4000000 in
set_option maxRecDepth 100000 in
theorem wkJ8_floorMod {G : Gx} {X : Xw} {σ : St} {a0 : Int32} {a1 : Int32} (Γ : Ok G RJ8 cJ8_floorMod 3) (hkp : ∀ (H H1 : Heap), gP G σ H → (∀ q : Nat, q < H.size → H1[q]? = H[q]?) → gP G σ H1) (hRm : Rm G 0 0) {r : Int32} (h : j_floorMod a0 a1 = some r) (hret : ∀ (pc : Nat) (lv : List (Nat × Value)), retIs cJ8_floorMod (some .int) (some (.int r)) pc → At G 3 σ lv [.int r] pc) : At G 3 σ [(0, .int a0), (1, .int a1)] [] 0 := by
  rw [j_floorMod] at h
  refine A_iload_n Γ dJ8_floorMod_0 0 rfl ?_
  refine A_iload_n Γ dJ8_floorMod_1 1 rfl ?_
  replace h := b1 h
  obtain ⟨v2, e1, h⟩ := h
  obtain ⟨rfl, hze1⟩ := nz_in e1
  refine A_irem Γ dJ8_floorMod_2 hze1 ?_
  refine A_istore_n (lv' := [(2, .int (a0 - a0 / a1 * a1)), (0, .int a0), (1, .int a1)]) Γ dJ8_floorMod_3 (by decide) rfl ?_
  refine A_iload_n Γ dJ8_floorMod_4 1 rfl ?_
  refine A_iload_n Γ dJ8_floorMod_5 2 rfl ?_
  refine A_ixor Γ dJ8_floorMod_6 ?_
  refine A_if_ge (t := 18) Γ dJ8_floorMod_7 (by decide) (fun c => ?_) (fun c => ?_)
  · replace h := it_t c h
    refine A_iload_n Γ dJ8_floorMod_18 0 rfl ?_
    obtain rfl := inj1 h
    exact hret _ _ dJ8_floorMod_19
  · replace h := it_f c h
    refine A_iload_n Γ dJ8_floorMod_10 0 rfl ?_
    refine A_if_eq (t := 18) Γ dJ8_floorMod_11 (by decide) (fun c => ?_) (fun c => ?_)
    · replace h := it_t c h
      refine A_iload_n Γ dJ8_floorMod_18 0 rfl ?_
      obtain rfl := inj1 h
      exact hret _ _ dJ8_floorMod_19
    · replace h := it_f c h
      refine A_iload_n Γ dJ8_floorMod_14 0 rfl ?_
      refine A_iload_n Γ dJ8_floorMod_15 2 rfl ?_
      refine A_iadd Γ dJ8_floorMod_16 ?_
      obtain rfl := inj1 h
      exact hret _ _ dJ8_floorMod_17
theorem mtJ8_floorMod (l : Launch) {a0 : Int32} {a1 : Int32} {r : Int32} (h : j_floorMod a0 a1 = some r) : MetS l yJ8_floorMod cJ8_floorMod 3 (some .int) 0 0 [.int a0, .int a1] (some (.int r)) := MetS.ofAtF ((fun _ => 0), (fun _ => 0), (fun _ _ => 0), (fun _ _ => 0), fun _ => none) (by decide +kernel) (Nat.le_of_ble_eq_true rfl) (fun G _ Γ hR hp hret => wkJ8_floorMod (X := (0, (fun _ => 0), (fun _ => 0), (fun _ _ => 0), (fun _ => 0), (fun _ => True))) Γ hp hR h hret)
theorem kX0_J8floorMod {G : Gx} {cc : ByteArray} {nL pc F LO : Nat} {σ : St} {lv : List (Nat × Value)} {st : List Value} (Γ : Ok G RX0 cc nL) (hkp : ∀ (H H1 : Heap), gP G σ H → (∀ q : Nat, q < H.size → H1[q]? = H[q]?) → gP G σ H1) {a0 : Int32} {a1 : Int32} {r : Int32} (hRm : Rm G F LO) (hf : 0 + 1 ≤ F) (hlo : 8 + (3 + 11) + 0 ≤ LO) (h : j_floorMod a0 a1 = some r) (hW : (st.map fun v => v.category).sum ≤ 8) (d : decode cc pc = .ok (.invokestatic 229, 3)) (kk : At G nL σ lv (.int r :: st) (pc + 3)) : At G nL σ lv (.int a1 :: .int a0 :: st) pc := A_callS Γ hkp rfl (mtJ8_floorMod (gl G) h) (lw_S q545 q546 q74 q547) (n := 2) (by decide +kernel) (rm_ok hRm hf hlo) (rm_k hRm) rfl rfl hW d kk
set_option maxHeartbeats 4000000 in
set_option maxRecDepth 100000 in
theorem wkJ8_max {G : Gx} {X : Xw} {σ : St} {a0 : Int32} {a1 : Int32} (Γ : Ok G RJ8 cJ8_max 2) (hkp : ∀ (H H1 : Heap), gP G σ H → (∀ q : Nat, q < H.size → H1[q]? = H[q]?) → gP G σ H1) (hRm : Rm G 0 0) {r : Int32} (h : j_max a0 a1 = some r) (hret : ∀ (pc : Nat) (lv : List (Nat × Value)), retIs cJ8_max (some .int) (some (.int r)) pc → At G 2 σ lv [.int r] pc) : At G 2 σ [(0, .int a0), (1, .int a1)] [] 0 := by
  rw [j_max] at h
  refine A_iload_n Γ dJ8_max_0 0 rfl ?_
  refine A_iload_n Γ dJ8_max_1 1 rfl ?_
  replace h := b1 h
  obtain ⟨x2, eJ1, h⟩ := h
  have hJJ1 : At G 2 σ [] [.int x2] 10 := by
    obtain rfl := inj1 h
    exact hret _ _ dJ8_max_10
  refine A_icmp_lt (t := 9) Γ dJ8_max_2 (by decide) (fun c => ?_) (fun c => ?_)
  · replace eJ1 := it_t c eJ1
    refine A_iload_n Γ dJ8_max_9 1 rfl ?_
    obtain rfl := inj1 eJ1
    exact A_sub [] rfl hJJ1
  · replace eJ1 := it_f c eJ1
    refine A_iload_n Γ dJ8_max_5 0 rfl ?_
    refine A_goto (t := 10) Γ dJ8_max_6 (by decide) ?_
    obtain rfl := inj1 eJ1
    exact A_sub [] rfl hJJ1
theorem mtJ8_max (l : Launch) {a0 : Int32} {a1 : Int32} {r : Int32} (h : j_max a0 a1 = some r) : MetS l yJ8_max cJ8_max 2 (some .int) 0 0 [.int a0, .int a1] (some (.int r)) := MetS.ofAtF ((fun _ => 0), (fun _ => 0), (fun _ _ => 0), (fun _ _ => 0), fun _ => none) (by decide +kernel) (Nat.le_of_ble_eq_true rfl) (fun G _ Γ hR hp hret => wkJ8_max (X := (0, (fun _ => 0), (fun _ => 0), (fun _ _ => 0), (fun _ => 0), (fun _ => True))) Γ hp hR h hret)
theorem kX0_J8max {G : Gx} {cc : ByteArray} {nL pc F LO : Nat} {σ : St} {lv : List (Nat × Value)} {st : List Value} (Γ : Ok G RX0 cc nL) (hkp : ∀ (H H1 : Heap), gP G σ H → (∀ q : Nat, q < H.size → H1[q]? = H[q]?) → gP G σ H1) {a0 : Int32} {a1 : Int32} {r : Int32} (hRm : Rm G F LO) (hf : 0 + 1 ≤ F) (hlo : 8 + (2 + 11) + 0 ≤ LO) (h : j_max a0 a1 = some r) (hW : (st.map fun v => v.category).sum ≤ 8) (d : decode cc pc = .ok (.invokestatic 371, 3)) (kk : At G nL σ lv (.int r :: st) (pc + 3)) : At G nL σ lv (.int a1 :: .int a0 :: st) pc := A_callS Γ hkp rfl (mtJ8_max (gl G) h) (lw_S q924 q925 q74 q926) (n := 2) (by decide +kernel) (rm_ok hRm hf hlo) (rm_k hRm) rfl rfl hW d kk
set_option maxHeartbeats 4000000 in
set_option maxRecDepth 100000 in
theorem wkJ11_bitCount {G : Gx} {X : Xw} {σ : St} {a0 : Int32} (Γ : Ok G RJ11 cJ11_bitCount 1) (hkp : ∀ (H H1 : Heap), gP G σ H → (∀ q : Nat, q < H.size → H1[q]? = H[q]?) → gP G σ H1) (hRm : Rm G 0 0) {r : Int32} (h : j_bitCount a0 = some r) (hret : ∀ (pc : Nat) (lv : List (Nat × Value)), retIs cJ11_bitCount (some .int) (some (.int r)) pc → At G 1 σ lv [.int r] pc) : At G 1 σ [(0, .int a0)] [] 0 := by
  rw [j_bitCount] at h
  refine A_iload_n Γ dJ11_bitCount_0 0 rfl ?_
  refine A_iload_n Γ dJ11_bitCount_1 0 rfl ?_
  refine A_iconst (v := 1) Γ dJ11_bitCount_2 (by decide) ?_
  refine A_iushr Γ dJ11_bitCount_3 ?_
  refine A_ldcw (v := 1431655765) Γ q946 dJ11_bitCount_4 ?_
  refine A_iand Γ dJ11_bitCount_7 ?_
  refine A_isub Γ dJ11_bitCount_8 ?_
  replace h := b1 h
  obtain ⟨x1, e2, h⟩ := h
  rw [inj1 e2]
  refine A_istore_n (lv' := [(0, .int x1)]) Γ dJ11_bitCount_9 (by decide) rfl ?_
  refine A_iload_n Γ dJ11_bitCount_10 0 rfl ?_
  refine A_ldcw (v := 858993459) Γ q947 dJ11_bitCount_11 ?_
  refine A_iand Γ dJ11_bitCount_14 ?_
  refine A_iload_n Γ dJ11_bitCount_15 0 rfl ?_
  refine A_iconst (v := 2) Γ dJ11_bitCount_16 (by decide) ?_
  refine A_iushr Γ dJ11_bitCount_17 ?_
  refine A_ldcw (v := 858993459) Γ q947 dJ11_bitCount_18 ?_
  refine A_iand Γ dJ11_bitCount_21 ?_
  refine A_iadd Γ dJ11_bitCount_22 ?_
  replace h := b1 h
  obtain ⟨x3, e4, h⟩ := h
  rw [inj1 e4]
  refine A_istore_n (lv' := [(0, .int x3)]) Γ dJ11_bitCount_23 (by decide) rfl ?_
  refine A_iload_n Γ dJ11_bitCount_24 0 rfl ?_
  refine A_iload_n Γ dJ11_bitCount_25 0 rfl ?_
  refine A_iconst (v := 4) Γ dJ11_bitCount_26 (by decide) ?_
  refine A_iushr Γ dJ11_bitCount_27 ?_
  refine A_iadd Γ dJ11_bitCount_28 ?_
  refine A_ldcw (v := 252645135) Γ q948 dJ11_bitCount_29 ?_
  refine A_iand Γ dJ11_bitCount_32 ?_
  replace h := b1 h
  obtain ⟨x5, e6, h⟩ := h
  rw [inj1 e6]
  refine A_istore_n (lv' := [(0, .int x5)]) Γ dJ11_bitCount_33 (by decide) rfl ?_
  refine A_iload_n Γ dJ11_bitCount_34 0 rfl ?_
  refine A_iload_n Γ dJ11_bitCount_35 0 rfl ?_
  refine A_bipush (v := 8) Γ dJ11_bitCount_36 (by decide) ?_
  refine A_iushr Γ dJ11_bitCount_38 ?_
  refine A_iadd Γ dJ11_bitCount_39 ?_
  replace h := b1 h
  obtain ⟨x7, e8, h⟩ := h
  rw [inj1 e8]
  refine A_istore_n (lv' := [(0, .int x7)]) Γ dJ11_bitCount_40 (by decide) rfl ?_
  refine A_iload_n Γ dJ11_bitCount_41 0 rfl ?_
  refine A_iload_n Γ dJ11_bitCount_42 0 rfl ?_
  refine A_bipush (v := 16) Γ dJ11_bitCount_43 (by decide) ?_
  refine A_iushr Γ dJ11_bitCount_45 ?_
  refine A_iadd Γ dJ11_bitCount_46 ?_
  replace h := b1 h
  obtain ⟨x9, e10, h⟩ := h
  rw [inj1 e10]
  refine A_istore_n (lv' := [(0, .int x9)]) Γ dJ11_bitCount_47 (by decide) rfl ?_
  refine A_iload_n Γ dJ11_bitCount_48 0 rfl ?_
  refine A_bipush (v := 63) Γ dJ11_bitCount_49 (by decide) ?_
  refine A_iand Γ dJ11_bitCount_51 ?_
  obtain rfl := inj1 h
  exact hret _ _ dJ11_bitCount_52
theorem mtJ11_bitCount (l : Launch) {a0 : Int32} {r : Int32} (h : j_bitCount a0 = some r) : MetS l yJ11_bitCount cJ11_bitCount 1 (some .int) 0 0 [.int a0] (some (.int r)) := MetS.ofAt ((fun _ => 0), (fun _ => 0), (fun _ _ => 0), (fun _ _ => 0), fun _ => none) (by decide) (Nat.le_of_ble_eq_true rfl) (fun G _ Γ hR hp hret => wkJ11_bitCount (X := (0, (fun _ => 0), (fun _ => 0), (fun _ _ => 0), (fun _ => 0), (fun _ => True))) Γ hp hR h hret)
theorem kX0_J11bitCount {G : Gx} {cc : ByteArray} {nL pc F LO : Nat} {σ : St} {lv : List (Nat × Value)} {st : List Value} (Γ : Ok G RX0 cc nL) (hkp : ∀ (H H1 : Heap), gP G σ H → (∀ q : Nat, q < H.size → H1[q]? = H[q]?) → gP G σ H1) {a0 : Int32} {r : Int32} (hRm : Rm G F LO) (hf : 0 + 1 ≤ F) (hlo : 8 + (1 + 11) + 0 ≤ LO) (h : j_bitCount a0 = some r) (hW : (st.map fun v => v.category).sum ≤ 8) (d : decode cc pc = .ok (.invokestatic 380, 3)) (kk : At G nL σ lv (.int r :: st) (pc + 3)) : At G nL σ lv (.int a0 :: st) pc := A_callS Γ hkp rfl (mtJ11_bitCount (gl G) h) (lw_S q943 q944 q81 q945) (n := 1) (by decide +kernel) (rm_ok hRm hf hlo) (rm_k hRm) rfl rfl hW d kk
