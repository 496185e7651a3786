set_option maxHeartbeats 4000000 in
set_option maxRecDepth 100000 in
theorem wkX1_in {G : Gx} {X : Xw} {σ : St} (Γ : Ok G RX1 cX1_in 3) (hkp : ∀ (H H1 : Heap), gP G σ H → (∀ q : Nat, q < H.size → H1[q]? = H[q]?) → gP G σ H1) (hRm : Rm G 0 0) {a0 : Int32} {a1 : Int32} {a2 : Int32} {r : Int32} (h : m_in a0 a1 a2 = some r) (hret : ∀ (pc : Nat) (lv : List (Nat × Value)), retIs cX1_in (some .boolean) (some (.int r)) pc → At G 3 σ lv [.int r] pc) : At G 3 σ [(0, .int a0), (1, .int a1), (2, .int a2)] [] 0 := by
  rw [m_in] at h
  refine A_iload_n Γ dX1_in_0 0 rfl ?_
  refine A_iload_n Γ dX1_in_1 1 rfl ?_
  replace h := b1 h
  obtain ⟨x2, eJ1, h⟩ := h
  have hJJ1 : At G 3 σ [] [.int x2] 15 := by
    replace h := b1 h
    obtain ⟨v4, e3, h⟩ := h
    obtain ⟨rfl, hze3⟩ := bZ_in e3
    obtain rfl := inj1 h
    exact hret _ _ ⟨dX1_in_15, hze3⟩
  refine A_icmp_lt (t := 14) Γ dX1_in_2 (by decide) (fun c => ?_) (fun c => ?_)
  · replace eJ1 := it_t c eJ1
    refine A_iconst (v := 0) Γ dX1_in_14 (by decide) ?_
    obtain rfl := inj1 eJ1
    exact A_sub [] rfl hJJ1
  · replace eJ1 := it_f c eJ1
    refine A_iload_n Γ dX1_in_5 0 rfl ?_
    refine A_iload_n Γ dX1_in_6 2 rfl ?_
    refine A_icmp_gt (t := 14) Γ dX1_in_7 (by decide) (fun c => ?_) (fun c => ?_)
    · replace eJ1 := it_t c eJ1
      refine A_iconst (v := 0) Γ dX1_in_14 (by decide) ?_
      obtain rfl := inj1 eJ1
      exact A_sub [] rfl hJJ1
    · replace eJ1 := it_f c eJ1
      refine A_iconst (v := 1) Γ dX1_in_10 (by decide) ?_
      refine A_goto (t := 15) Γ dX1_in_11 (by decide) ?_
      obtain rfl := inj1 eJ1
      exact A_sub [] rfl hJJ1
theorem mtX1_in (l : Launch) {a0 : Int32} {a1 : Int32} {a2 : Int32} {r : Int32} (h : m_in a0 a1 a2 = some r) : MetS l yX1_in cX1_in 3 (some .boolean) 0 0 [.int a0, .int a1, .int a2] (some (.int r)) := MetS.ofAt ((fun _ => 0), (fun _ => 0), (fun _ _ => 0), (fun _ _ => 0), fun _ => none) (by decide) (Nat.le_of_ble_eq_true rfl) (fun G _ Γ hR hp hret => wkX1_in (X := (0, (fun _ => 0), (fun _ => 0), (fun _ _ => 0), (fun _ => 0), (fun _ => True))) Γ hp hR h hret)
theorem kX1_X1in {G : Gx} {cc : ByteArray} {nL pc F LO : Nat} {σ : St} {lv : List (Nat × Value)} {st : List Value} (Γ : Ok G RX1 cc nL) (hkp : ∀ (H H1 : Heap), gP G σ H → (∀ q : Nat, q < H.size → H1[q]? = H[q]?) → gP G σ H1) {a0 : Int32} {a1 : Int32} {a2 : Int32} {r : Int32} (hRm : Rm G F LO) (hf : 0 + 1 ≤ F) (hlo : 8 + (3 + 11) + 0 ≤ LO) (h : m_in a0 a1 a2 = some r) (hW : (st.map fun v => v.category).sum ≤ 8) (d : decode cc pc = .ok (.invokestatic 185, 3)) (kk : At G nL σ lv (.int r :: st) (pc + 3)) : At G nL σ lv (.int a2 :: .int a1 :: .int a0 :: st) pc := A_callS Γ hkp rfl (mtX1_in (gl G) h) (lw_S q1296 q1297 q64 q1298) (n := 3) (by decide +kernel) (rm_ok hRm hf hlo) (rm_k hRm) rfl rfl hW d kk
set_option maxHeartbeats 4000000 in
set_option maxRecDepth 100000 in
theorem wkX1_meets {G : Gx} {X : Xw} {σ σ' : St} (Γ : Ok G RX1 cX1_meets 2) (Ξ : OkX 1 G X) (hRm : Rm G 0 0) {a1 : Int32} {r : Int32} (h : m_meets σ a1 = some (r, σ')) (hret : ∀ (pc : Nat) (lv : List (Nat × Value)), retIs cX1_meets (some .int) (some (.int r)) pc → At G 2 σ' lv [.int r] pc) : At G 2 σ [(0, .ref (xo X)), (1, .int a1)] [] 0 := by
  rw [m_meets] at h
  refine A_aload_n Γ dX1_meets_0 0 rfl ?_
  refine A_iload_n Γ dX1_meets_1 1 rfl ?_
  refine p1_0 Γ Ξ dX1_meets_2 ?_
  refine A_aload_n Γ dX1_meets_5 0 rfl ?_
  refine g1_1 Γ Ξ dX1_meets_6 ?_
  refine A_iload_n Γ dX1_meets_9 1 rfl ?_
  refine A_dup2 Γ dX1_meets_10 rfl rfl ?_
  replace h := b1 h
  obtain ⟨v1, e2, h⟩ := h
  refine r1_1 Γ Ξ e2 dX1_meets_11 ?_
  refine A_iconst (v := 1) Γ dX1_meets_12 (by decide) ?_
  refine A_iadd Γ dX1_meets_13 ?_
  replace h := b1 h
  obtain ⟨σ3, e4, h⟩ := h
  refine w1_1 Γ Ξ e4 dX1_meets_14 ?_
  refine A_bipush (v := (-3)) Γ dX1_meets_15 (by decide) ?_
  obtain ⟨rfl, rfl⟩ := inj2 h
  exact hret _ _ dX1_meets_17
theorem mtX1_meets (l : Launch) (X : Xw) {σ σ' : St} {a1 : Int32} {r : Int32} (h : m_meets σ a1 = some (r, σ')) : MetZ 1 l X yX1_meets cX1_meets 2 (some .int) 0 0 [.ref (xo X), .int a1] σ (some (.int r)) σ' := MetZ.ofAt (by decide) (Nat.le_of_ble_eq_true rfl) (fun G _ Γ Ξ hR hret => wkX1_meets Γ Ξ hR h hret)
theorem kX1_X1meets {G : Gx} {X : Xw} {cc : ByteArray} {nL pc F LO : Nat} {σ σ' : St} {lv : List (Nat × Value)} {st : List Value} (Γ : Ok G RX1 cc nL) (Ξ : OkX 1 G X) {a1 : Int32} {r : Int32} (hRm : Rm G F LO) (hf : 0 + 1 ≤ F) (hlo : 8 + (2 + 11) + 0 ≤ LO) (h : m_meets σ a1 = some (r, σ')) (hW : (st.map fun v => v.category).sum ≤ 8) (d : decode cc pc = .ok (.invokevirtual 193, 3)) (kk : At G nL σ' lv (.int r :: st) (pc + 3)) : At G nL σ lv (.int a1 :: .ref (xo X) :: st) pc := A_callV Γ Ξ rfl rfl (mtX1_meets (gl G) X h) (lw_V q1299 q1301 qs31 q64 q1302) (n := 1) (by decide +kernel) (rm_ok hRm hf hlo) (rm_k hRm) rfl rfl hW d kk
set_option maxHeartbeats 4000000 in
set_option maxRecDepth 100000 in
theorem wkX1_ask {G : Gx} {X : Xw} {σ σ' : St} (Γ : Ok G RX1 cX1_ask 3) (Ξ : OkX 1 G X) (hRm : Rm G 0 0) {a1 : Int32} {a2 : Int32} {r : Int32} (h : m_ask σ a1 a2 = some (r, σ')) (hret : ∀ (pc : Nat) (lv : List (Nat × Value)), retIs cX1_ask (some .int) (some (.int r)) pc → At G 3 σ' lv [.int r] pc) : At G 3 σ [(0, .ref (xo X)), (1, .int a1), (2, .int a2)] [] 0 := by
  rw [m_ask] at h
  refine A_aload_n Γ dX1_ask_0 0 rfl ?_
  refine A_iload_n Γ dX1_ask_1 1 rfl ?_
  refine p1_2 Γ Ξ dX1_ask_2 ?_
  refine A_iload_n Γ dX1_ask_5 2 rfl ?_
  obtain ⟨rfl, rfl⟩ := inj2 h
  exact hret _ _ dX1_ask_6
theorem mtX1_ask (l : Launch) (X : Xw) {σ σ' : St} {a1 : Int32} {a2 : Int32} {r : Int32} (h : m_ask σ a1 a2 = some (r, σ')) : MetZ 1 l X yX1_ask cX1_ask 3 (some .int) 0 0 [.ref (xo X), .int a1, .int a2] σ (some (.int r)) σ' := MetZ.ofAt (by decide) (Nat.le_of_ble_eq_true rfl) (fun G _ Γ Ξ hR hret => wkX1_ask Γ Ξ hR h hret)
theorem kX1_X1ask {G : Gx} {X : Xw} {cc : ByteArray} {nL pc F LO : Nat} {σ σ' : St} {lv : List (Nat × Value)} {st : List Value} (Γ : Ok G RX1 cc nL) (Ξ : OkX 1 G X) {a1 : Int32} {a2 : Int32} {r : Int32} (hRm : Rm G F LO) (hf : 0 + 1 ≤ F) (hlo : 8 + (3 + 11) + 0 ≤ LO) (h : m_ask σ a1 a2 = some (r, σ')) (hW : (st.map fun v => v.category).sum ≤ 8) (d : decode cc pc = .ok (.invokevirtual 246, 3)) (kk : At G nL σ' lv (.int r :: st) (pc + 3)) : At G nL σ lv (.int a2 :: .int a1 :: .ref (xo X) :: st) pc := A_callV Γ Ξ rfl rfl (mtX1_ask (gl G) X h) (lw_V q1395 q1397 qs40 q64 q1398) (n := 2) (by decide +kernel) (rm_ok hRm hf hlo) (rm_k hRm) rfl rfl hW d kk
set_option maxHeartbeats 4000000 in
set_option maxRecDepth 100000 in
theorem wkX1_share {G : Gx} {X : Xw} {σ σ' : St} (Γ : Ok G RX1 cX1_share 11) (Ξ : OkX 1 G X) (hRm : Rm G 0 0) {a1 : Int64} {a3 : Int64} {r : Int32} (h : m_share σ a1 a3 = some (r, σ')) (hret : ∀ (pc : Nat) (lv : List (Nat × Value)), retIs cX1_share (some .int) (some (.int r)) pc → At G 11 σ' lv [.int r] pc) : At G 11 σ [(0, .ref (xo X)), (1, .long a1), (3, .long a3)] [] 0 := by
  rw [m_share] at h
  refine A_lload_n Γ dX1_share_0 1 rfl ?_
  refine A_lconst (v := 0) Γ dX1_share_1 (by decide) ?_
  refine A_lcmp Γ dX1_share_2 ?_
  replace h := b1 h
  obtain ⟨x2, eJ1, h⟩ := h
  have hJJ1 : At G 11 σ [(0, .ref (xo X)), (1, .long a1), (3, .long a3)] [.long x2] 12 := by
    refine A_lstore (lv' := [(5, .long x2), (0, .ref (xo X)), (1, .long a1), (3, .long a3)]) Γ dX1_share_12 (by decide) rfl ?_
    refine A_lload_n Γ dX1_share_14 3 rfl ?_
    refine A_lstore (lv' := [(7, .long a3), (5, .long x2), (0, .ref (xo X)), (1, .long a1), (3, .long a3)]) Γ dX1_share_15 (by decide) rfl ?_
    replace h := b1 h
    obtain ⟨x6, eLL3, h⟩ := h
    have hXL3 : At G 11 σ [(0, .ref (xo X)), (1, .long a1), (3, .long a3), (5, .long x6)] [] 42 := by
      refine A_aload_n Γ dX1_share_42 0 rfl ?_
      refine A_lload_n Γ dX1_share_43 1 rfl ?_
      refine A_lload Γ dX1_share_44 3 rfl ?_
      replace h := b1 h
      obtain ⟨v10, e9, h⟩ := h
      obtain ⟨rfl, hze9⟩ := nzL_in e9
      refine A_ldiv Γ dX1_share_46 hze9 ?_
      refine p1_3 Γ Ξ dX1_share_47 ?_
      refine A_aload_n Γ dX1_share_50 0 rfl ?_
      refine A_lload_n Γ dX1_share_51 2 rfl ?_
      refine A_lload Γ dX1_share_52 3 rfl ?_
      replace h := b1 h
      obtain ⟨v12, e11, h⟩ := h
      obtain ⟨rfl, hze11⟩ := nzL_in e11
      refine A_ldiv Γ dX1_share_54 hze11 ?_
      refine p1_4 Γ Ξ dX1_share_55 ?_
      refine A_iconst (v := 1) Γ dX1_share_58 (by decide) ?_
      obtain ⟨rfl, rfl⟩ := inj2 h
      exact hret _ _ dX1_share_59
    replace eLL3 := lq2_ex eLL3
    obtain ⟨nL3, eLL3⟩ := eLL3
    have hLL3 : ∀ (nL3 : Nat) (x4 : Int64) (x5 : Int64), lpf2 (m_share_L3) nL3 x4 x5 = some x6 → At G 11 σ [(0, .ref (xo X)), (1, .long a1), (3, .long a3), (5, .long x4), (7, .long x5)] [] 17 := by
      intro nL3
      induction nL3 with
      | zero => intro x4 x5 eL3; exact (lpf2_0 eL3).elim
      | succ nL3 ihL3 =>
        intro x4 x5 eL3
        replace eL3 := lpf2_s eL3
        obtain ⟨qL3, eL3, hqL3⟩ := eL3
        rw [m_share_L3] at eL3
        refine A_lload Γ dX1_share_17 4 rfl ?_
        refine A_lconst (v := 0) Γ dX1_share_19 (by decide) ?_
        refine A_lcmp Γ dX1_share_20 ?_
        refine A_if_eq (t := 42) Γ dX1_share_21 (by decide) (fun c => ?_) (fun c => ?_)
        · replace eL3 := it_t c eL3
          obtain rfl := pr1 (lpx2 eL3 hqL3)
          exact A_sub [0, 1, 2, 3] rfl hXL3
        · replace eL3 := it_f c eL3
          refine A_lload Γ dX1_share_24 3 rfl ?_
          refine A_lload Γ dX1_share_26 4 rfl ?_
          replace eL3 := b1 eL3
          obtain ⟨v8, e7, eL3⟩ := eL3
          obtain ⟨rfl, hze7⟩ := nzL_in e7
          refine A_lrem Γ dX1_share_28 hze7 ?_
          refine A_lstore (lv' := [(9, .long (x4 - x4 / x5 * x5)), (0, .ref (xo X)), (1, .long a1), (3, .long a3), (5, .long x4), (7, .long x5)]) Γ dX1_share_29 (by decide) rfl ?_
          refine A_lload Γ dX1_share_31 5 rfl ?_
          refine A_lstore (lv' := [(5, .long x5), (9, .long (x4 - x4 / x5 * x5)), (0, .ref (xo X)), (1, .long a1), (3, .long a3), (7, .long x5)]) Γ dX1_share_33 (by decide) rfl ?_
          refine A_lload Γ dX1_share_35 1 rfl ?_
          refine A_lstore (lv' := [(7, .long (x4 - x4 / x5 * x5)), (5, .long x5), (9, .long (x4 - x4 / x5 * x5)), (0, .ref (xo X)), (1, .long a1), (3, .long a3)]) Γ dX1_share_37 (by decide) rfl ?_
          refine A_goto (t := 17) Γ dX1_share_39 (by decide) ?_
          exact A_sub [3, 4, 5, 1, 0] rfl (ihL3 _ _ (lpc2 eL3 hqL3))
    exact A_sub [2, 3, 4, 1, 0] rfl (hLL3 _ _ _ eLL3)
  refine A_if_ge (t := 11) Γ dX1_share_3 (by decide) (fun c => ?_) (fun c => ?_)
  · replace eJ1 := it_t c eJ1
    refine A_lload_n Γ dX1_share_11 1 rfl ?_
    obtain rfl := inj1 eJ1
    exact A_sub [0, 1, 2] rfl hJJ1
  · replace eJ1 := it_f c eJ1
    refine A_lload_n Γ dX1_share_6 1 rfl ?_
    refine A_lneg Γ dX1_share_7 ?_
    refine A_goto (t := 12) Γ dX1_share_8 (by decide) ?_
    obtain rfl := inj1 eJ1
    exact A_sub [0, 1, 2] rfl hJJ1
theorem mtX1_share (l : Launch) (X : Xw) {σ σ' : St} {a1 : Int64} {a3 : Int64} {r : Int32} (h : m_share σ a1 a3 = some (r, σ')) : MetZ 1 l X yX1_share cX1_share 11 (some .int) 0 0 [.ref (xo X), .long a1, .long a3] σ (some (.int r)) σ' := MetZ.ofAt (by decide) (Nat.le_of_ble_eq_true rfl) (fun G _ Γ Ξ hR hret => wkX1_share Γ Ξ hR h hret)
theorem kX1_X1share {G : Gx} {X : Xw} {cc : ByteArray} {nL pc F LO : Nat} {σ σ' : St} {lv : List (Nat × Value)} {st : List Value} (Γ : Ok G RX1 cc nL) (Ξ : OkX 1 G X) {a1 : Int64} {a3 : Int64} {r : Int32} (hRm : Rm G F LO) (hf : 0 + 1 ≤ F) (hlo : 8 + (11 + 11) + 0 ≤ LO) (h : m_share σ a1 a3 = some (r, σ')) (hW : (st.map fun v => v.category).sum ≤ 8) (d : decode cc pc = .ok (.invokevirtual 297, 3)) (kk : At G nL σ' lv (.int r :: st) (pc + 3)) : At G nL σ lv (.long a3 :: .long a1 :: .ref (xo X) :: st) pc := A_callV Γ Ξ rfl rfl (mtX1_share (gl G) X h) (lw_V q1534 q1536 qs49 q64 q1537) (n := 2) (by decide +kernel) (rm_ok hRm hf hlo) (rm_k hRm) rfl rfl hW d kk
set_option maxHeartbeats 4000000 in
set_option maxRecDepth 100000 in
theorem wkX1_day {G : Gx} {X : Xw} {σ : St} (Γ : Ok G RX1 cX1_day 1) (hkp : ∀ (H H1 : Heap), gP G σ H → (∀ q : Nat, q < H.size → H1[q]? = H[q]?) → gP G σ H1) (hRm : Rm G 0 0) {a0 : Int32} {r : Int32} (h : m_day a0 = some r) (hret : ∀ (pc : Nat) (lv : List (Nat × Value)), retIs cX1_day (some .int) (some (.int r)) pc → At G 1 σ lv [.int r] pc) : At G 1 σ [(0, .int a0)] [] 0 := by
  rw [m_day] at h
  refine A_iload_n Γ dX1_day_0 0 rfl ?_
  refine A_sipush (v := 1440) Γ dX1_day_1 (by decide) ?_
  refine A_idiv Γ dX1_day_4 (by decide) ?_
  obtain rfl := inj1 h
  exact hret _ _ dX1_day_5
theorem mtX1_day (l : Launch) {a0 : Int32} {r : Int32} (h : m_day a0 = some r) : MetS l yX1_day cX1_day 1 (some .int) 0 0 [.int a0] (some (.int r)) := MetS.ofAt ((fun _ => 0), (fun _ => 0), (fun _ _ => 0), (fun _ _ => 0), fun _ => none) (by decide) (Nat.le_of_ble_eq_true rfl) (fun G _ Γ hR hp hret => wkX1_day (X := (0, (fun _ => 0), (fun _ => 0), (fun _ _ => 0), (fun _ => 0), (fun _ => True))) Γ hp hR h hret)
theorem kX1_X1day {G : Gx} {cc : ByteArray} {nL pc F LO : Nat} {σ : St} {lv : List (Nat × Value)} {st : List Value} (Γ : Ok G RX1 cc nL) (hkp : ∀ (H H1 : Heap), gP G σ H → (∀ q : Nat, q < H.size → H1[q]? = H[q]?) → gP G σ H1) {a0 : Int32} {r : Int32} (hRm : Rm G F LO) (hf : 0 + 1 ≤ F) (hlo : 8 + (1 + 11) + 0 ≤ LO) (h : m_day a0 = some r) (hW : (st.map fun v => v.category).sum ≤ 8) (d : decode cc pc = .ok (.invokestatic 252, 3)) (kk : At G nL σ lv (.int r :: st) (pc + 3)) : At G nL σ lv (.int a0 :: st) pc := A_callS Γ hkp rfl (mtX1_day (gl G) h) (lw_S q1407 q1408 q64 q1409) (n := 1) (by decide +kernel) (rm_ok hRm hf hlo) (rm_k hRm) rfl rfl hW d kk
set_option maxHeartbeats 4000000 in
set_option maxRecDepth 100000 in
theorem wkX1_isRow {G : Gx} {X : Xw} {σ : St} (Γ : Ok G RX1 cX1_isRow 1) (hkp : ∀ (H H1 : Heap), gP G σ H → (∀ q : Nat, q < H.size → H1[q]? = H[q]?) → gP G σ H1) (hRm : Rm G 1 22) {a0 : Int32} {r : Int32} (h : m_isRow a0 = some r) (hret : ∀ (pc : Nat) (lv : List (Nat × Value)), retIs cX1_isRow (some .boolean) (some (.int r)) pc → At G 1 σ lv [.int r] pc) : At G 1 σ [(0, .int a0)] [] 0 := by
  rw [m_isRow] at h
  refine A_iload_n Γ dX1_isRow_0 0 rfl ?_
  refine A_iconst (v := 0) Γ dX1_isRow_1 (by decide) ?_
  refine A_iconst (v := 5) Γ dX1_isRow_2 (by decide) ?_
  replace h := b1 h
  obtain ⟨v2, e1, h⟩ := h
  refine kX1_X1in Γ hkp hRm (by decide) (by decide) e1 (Nat.le_of_ble_eq_true rfl) dX1_isRow_3 ?_
  replace h := b1 h
  obtain ⟨v4, e3, h⟩ := h
  obtain ⟨rfl, hze3⟩ := bZ_in e3
  obtain rfl := inj1 h
  exact hret _ _ ⟨dX1_isRow_6, hze3⟩
theorem mtX1_isRow (l : Launch) {a0 : Int32} {r : Int32} (h : m_isRow a0 = some r) : MetS l yX1_isRow cX1_isRow 1 (some .boolean) 1 22 [.int a0] (some (.int r)) := MetS.ofAt ((fun _ => 0), (fun _ => 0), (fun _ _ => 0), (fun _ _ => 0), fun _ => none) (by decide) (Nat.le_of_ble_eq_true rfl) (fun G _ Γ hR hp hret => wkX1_isRow (X := (0, (fun _ => 0), (fun _ => 0), (fun _ _ => 0), (fun _ => 0), (fun _ => True))) Γ hp hR h hret)
theorem kX1_X1isRow {G : Gx} {cc : ByteArray} {nL pc F LO : Nat} {σ : St} {lv : List (Nat × Value)} {st : List Value} (Γ : Ok G RX1 cc nL) (hkp : ∀ (H H1 : Heap), gP G σ H → (∀ q : Nat, q < H.size → H1[q]? = H[q]?) → gP G σ H1) {a0 : Int32} {r : Int32} (hRm : Rm G F LO) (hf : 1 + 1 ≤ F) (hlo : 8 + (1 + 11) + 22 ≤ LO) (h : m_isRow a0 = some r) (hW : (st.map fun v => v.category).sum ≤ 8) (d : decode cc pc = .ok (.invokestatic 189, 3)) (kk : At G nL σ lv (.int r :: st) (pc + 3)) : At G nL σ lv (.int a0 :: st) pc := A_callS Γ hkp rfl (mtX1_isRow (gl G) h) (lw_S q1293 q1294 q64 q1295) (n := 1) (by decide +kernel) (rm_ok hRm hf hlo) (rm_k hRm) rfl rfl hW d kk
set_option maxHeartbeats 4000000 in
set_option maxRecDepth 100000 in
theorem wkX1_askedRow {G : Gx} {X : Xw} {σ σ' : St} (Γ : Ok G RX1 cX1_askedRow 2) (Ξ : OkX 1 G X) (hRm : Rm G 2 42) {a1 : Int32} {r : Int32} (h : m_askedRow σ a1 = some (r, σ')) (hret : ∀ (pc : Nat) (lv : List (Nat × Value)), retIs cX1_askedRow (some .int) (some (.int r)) pc → At G 2 σ' lv [.int r] pc) : At G 2 σ [(0, .ref (xo X)), (1, .int a1)] [] 0 := by
  rw [m_askedRow] at h
  refine A_iload_n Γ dX1_askedRow_0 1 rfl ?_
  replace h := b1 h
  obtain ⟨v2, e1, h⟩ := h
  refine kX1_X1isRow Γ (kpX Ξ) hRm (by decide) (by decide) e1 (Nat.le_of_ble_eq_true rfl) dX1_askedRow_1 ?_
  replace h := b2 h
  obtain ⟨σ4, x5, eJ3, h⟩ := h
  have hJJ3 : At G 2 σ4 [] [.int x5] 29 := by
    obtain ⟨rfl, rfl⟩ := inj2 h
    exact hret _ _ dX1_askedRow_29
  refine A_if_ne (t := 11) Γ dX1_askedRow_4 (by decide) (fun c => ?_) (fun c => ?_)
  · replace eJ3 := it_f c eJ3
    refine A_aload_n Γ dX1_askedRow_11 0 rfl ?_
    refine g1_6 Γ Ξ dX1_askedRow_12 ?_
    refine A_iload_n Γ dX1_askedRow_15 1 rfl ?_
    replace eJ3 := b1 eJ3
    obtain ⟨v6, e7, eJ3⟩ := eJ3
    refine r1_6 Γ Ξ e7 dX1_askedRow_16 ?_
    refine A_if_ge (t := 28) Γ dX1_askedRow_17 (by decide) (fun c => ?_) (fun c => ?_)
    · replace eJ3 := it_t c eJ3
      refine A_iconst (v := 0) Γ dX1_askedRow_28 (by decide) ?_
      obtain ⟨rfl, rfl⟩ := inj2 eJ3
      exact A_sub [] rfl hJJ3
    · replace eJ3 := it_f c eJ3
      refine A_aload_n Γ dX1_askedRow_20 0 rfl ?_
      refine A_iconst (v := 1) Γ dX1_askedRow_21 (by decide) ?_
      replace eJ3 := b2 eJ3
      obtain ⟨v9, σ10, e8, eJ3⟩ := eJ3
      refine kX1_X1meets Γ Ξ hRm (by decide) (by decide) e8 (Nat.le_of_ble_eq_true rfl) dX1_askedRow_22 ?_
      refine A_goto (t := 29) Γ dX1_askedRow_25 (by decide) ?_
      obtain ⟨rfl, rfl⟩ := inj2 eJ3
      exact A_sub [] rfl hJJ3
  · replace eJ3 := it_t c eJ3
    refine A_iconst (v := (-1)) Γ dX1_askedRow_7 (by decide) ?_
    refine A_goto (t := 29) Γ dX1_askedRow_8 (by decide) ?_
    obtain ⟨rfl, rfl⟩ := inj2 eJ3
    exact A_sub [] rfl hJJ3
theorem mtX1_askedRow (l : Launch) (X : Xw) {σ σ' : St} {a1 : Int32} {r : Int32} (h : m_askedRow σ a1 = some (r, σ')) : MetZ 1 l X yX1_askedRow cX1_askedRow 2 (some .int) 2 42 [.ref (xo X), .int a1] σ (some (.int r)) σ' := MetZ.ofAt (by decide) (Nat.le_of_ble_eq_true rfl) (fun G _ Γ Ξ hR hret => wkX1_askedRow Γ Ξ hR h hret)
theorem kX1_X1askedRow {G : Gx} {X : Xw} {cc : ByteArray} {nL pc F LO : Nat} {σ σ' : St} {lv : List (Nat × Value)} {st : List Value} (Γ : Ok G RX1 cc nL) (Ξ : OkX 1 G X) {a1 : Int32} {r : Int32} (hRm : Rm G F LO) (hf : 2 + 1 ≤ F) (hlo : 8 + (2 + 11) + 42 ≤ LO) (h : m_askedRow σ a1 = some (r, σ')) (hW : (st.map fun v => v.category).sum ≤ 8) (d : decode cc pc = .ok (.invokevirtual 197, 3)) (kk : At G nL σ' lv (.int r :: st) (pc + 3)) : At G nL σ lv (.int a1 :: .ref (xo X) :: st) pc := A_callV Γ Ξ rfl rfl (mtX1_askedRow (gl G) X h) (lw_V q1307 q1309 qs32 q64 q1310) (n := 1) (by decide +kernel) (rm_ok hRm hf hlo) (rm_k hRm) rfl rfl hW d kk
set_option maxHeartbeats 4000000 in
set_option maxRecDepth 100000 in
theorem wkX1_row {G : Gx} {X : Xw} {σ σ' : St} (Γ : Ok G RX1 cX1_row 4) (Ξ : OkX 1 G X) (hRm : Rm G 2 42) {a1 : Int32} {a2 : Int32} {r : Int32} (h : m_row σ a1 a2 = some (r, σ')) (hret : ∀ (pc : Nat) (lv : List (Nat × Value)), retIs cX1_row (some .int) (some (.int r)) pc → At G 4 σ' lv [.int r] pc) : At G 4 σ [(0, .ref (xo X)), (1, .int a1), (2, .int a2)] [] 0 := by
  rw [m_row] at h
  refine A_iload_n Γ dX1_row_0 1 rfl ?_
  replace h := b1 h
  obtain ⟨v2, e1, h⟩ := h
  refine kX1_X1isRow Γ (kpX Ξ) hRm (by decide) (by decide) e1 (Nat.le_of_ble_eq_true rfl) dX1_row_1 ?_
  refine A_if_eq (t := 13) Γ dX1_row_4 (by decide) (fun c => ?_) (fun c => ?_)
  · replace h := it_t c h
    refine A_iconst (v := (-1)) Γ dX1_row_13 (by decide) ?_
    obtain ⟨rfl, rfl⟩ := inj2 h
    exact hret _ _ dX1_row_14
  · replace h := it_f c h
    refine A_iload_n Γ dX1_row_7 2 rfl ?_
    refine A_bipush (v := 40) Γ dX1_row_8 (by decide) ?_
    refine A_icmp_le (t := 15) Γ dX1_row_10 (by decide) (fun c => ?_) (fun c => ?_)
    · replace h := it_t c h
      refine A_iload_n Γ dX1_row_15 2 rfl ?_
      refine A_if_ge (t := 25) Γ dX1_row_16 (by decide) (fun c => ?_) (fun c => ?_)
      · replace h := it_t c h
        refine A_aload_n Γ dX1_row_25 0 rfl ?_
        refine g1_6 Γ Ξ dX1_row_26 ?_
        refine A_iload_n Γ dX1_row_29 1 rfl ?_
        refine A_iload_n Γ dX1_row_30 2 rfl ?_
        replace h := b1 h
        obtain ⟨σ3, e4, h⟩ := h
        refine w1_6 Γ Ξ e4 dX1_row_31 ?_
        refine A_iconst (v := 0) Γ dX1_row_32 (by decide) ?_
        refine A_istore_n (lv' := [(3, .int 0), (0, .ref (xo X)), (1, .int a1), (2, .int a2)]) Γ dX1_row_33 (by decide) rfl ?_
        replace h := b1 h
        obtain ⟨σ8, eLL5, h⟩ := h
        have hXL5 : At G 4 σ8 [(2, .int a2)] [] 58 := by
          refine A_iload_n Γ dX1_row_58 0 rfl ?_
          obtain ⟨rfl, rfl⟩ := inj2 h
          exact hret _ _ dX1_row_59
        replace eLL5 := lq2_ex eLL5
        obtain ⟨nL5, eLL5⟩ := eLL5
        have hLL5 : ∀ (nL5 : Nat) (σ6 : St) (x7 : Int32), lpf2 (m_row_L5 a1) nL5 σ6 x7 = some σ8 → At G 4 σ6 [(0, .ref (xo X)), (1, .int a1), (2, .int a2), (3, .int x7)] [] 34 := by
          intro nL5
          induction nL5 with
          | zero => intro σ6 x7 eL5; exact (lpf2_0 eL5).elim
          | succ nL5 ihL5 =>
            intro σ6 x7 eL5
            replace eL5 := lpf2_s eL5
            obtain ⟨qL5, eL5, hqL5⟩ := eL5
            rw [m_row_L5] at eL5
            refine A_iload_n Γ dX1_row_34 3 rfl ?_
            refine A_bipush (v := 40) Γ dX1_row_35 (by decide) ?_
            refine A_icmp_ge (t := 58) Γ dX1_row_37 (by decide) (fun c => ?_) (fun c => ?_)
            · replace eL5 := it_t c eL5
              obtain rfl := pr1 (lpx2 eL5 hqL5)
              exact A_sub [2] rfl hXL5
            · replace eL5 := it_f c eL5
              refine A_aload_n Γ dX1_row_40 0 rfl ?_
              refine g1_7 Γ Ξ dX1_row_41 ?_
              refine A_bipush (v := 40) Γ dX1_row_44 (by decide) ?_
              refine A_iload_n Γ dX1_row_46 1 rfl ?_
              refine A_imul Γ dX1_row_47 ?_
              refine A_iload_n Γ dX1_row_48 3 rfl ?_
              refine A_iadd Γ dX1_row_49 ?_
              refine A_iconst (v := 0) Γ dX1_row_50 (by decide) ?_
              replace eL5 := b1 eL5
              obtain ⟨σ9, e10, eL5⟩ := eL5
              refine w1_7 Γ Ξ e10 dX1_row_51 ?_
              refine A_iinc (v := x7 + 1) (lv' := [(3, .int (x7 + 1)), (0, .ref (xo X)), (1, .int a1), (2, .int a2)]) Γ dX1_row_52 3 rfl rfl (by decide) rfl ?_
              refine A_goto (t := 34) Γ dX1_row_55 (by decide) ?_
              exact A_sub [1, 2, 3, 0] rfl (ihL5 _ _ (lpc2 eL5 hqL5))
        exact A_sub [1, 2, 3, 0] rfl (hLL5 _ _ _ eLL5)
      · replace h := it_f c h
        refine A_aload_n Γ dX1_row_19 0 rfl ?_
        refine A_iconst (v := 5) Γ dX1_row_20 (by decide) ?_
        replace h := b2 h
        obtain ⟨v12, σ13, e11, h⟩ := h
        refine kX1_X1meets Γ Ξ hRm (by decide) (by decide) e11 (Nat.le_of_ble_eq_true rfl) dX1_row_21 ?_
        obtain ⟨rfl, rfl⟩ := inj2 h
        exact hret _ _ dX1_row_24
    · replace h := it_f c h
      refine A_iconst (v := (-1)) Γ dX1_row_13 (by decide) ?_
      obtain ⟨rfl, rfl⟩ := inj2 h
      exact hret _ _ dX1_row_14
theorem mtX1_row (l : Launch) (X : Xw) {σ σ' : St} {a1 : Int32} {a2 : Int32} {r : Int32} (h : m_row σ a1 a2 = some (r, σ')) : MetZ 1 l X yX1_row cX1_row 4 (some .int) 2 42 [.ref (xo X), .int a1, .int a2] σ (some (.int r)) σ' := MetZ.ofAt (by decide) (Nat.le_of_ble_eq_true rfl) (fun G _ Γ Ξ hR hret => wkX1_row Γ Ξ hR h hret)

set_option maxHeartbeats 4000000 in
set_option maxRecDepth 100000 in
theorem wkX1_lay {G : Gx} {X : Xw} {σ σ' : St} (Γ : Ok G RX1 cX1_lay 5) (Ξ : OkX 1 G X) (hRm : Rm G 3 63) {a1 : Int32} {a2 : Int32} {a3 : Int32} {r : Int32} (h : m_lay σ a1 a2 a3 = some (r, σ')) (hret : ∀ (pc : Nat) (lv : List (Nat × Value)), retIs cX1_lay (some .int) (some (.int r)) pc → At G 5 σ' lv [.int r] pc) : At G 5 σ [(0, .ref (xo X)), (1, .int a1), (2, .int a2), (3, .int a3)] [] 0 := by
  rw [m_lay] at h
  refine A_aload_n Γ dX1_lay_0 0 rfl ?_
  refine A_iload_n Γ dX1_lay_1 1 rfl ?_
  replace h := b2 h
  obtain ⟨v2, σ3, e1, h⟩ := h
  refine kX1_X1askedRow Γ Ξ hRm (by decide) (by decide) e1 (Nat.le_of_ble_eq_true rfl) dX1_lay_2 ?_
  refine A_istore (lv' := [(4, .int v2), (0, .ref (xo X)), (1, .int a1), (2, .int a2), (3, .int a3)]) Γ dX1_lay_5 (by decide) rfl ?_
  refine A_iload Γ dX1_lay_7 0 rfl ?_
  refine A_if_ge (t := 15) Γ dX1_lay_9 (by decide) (fun c => ?_) (fun c => ?_)
  · replace h := it_t c h
    refine A_iload_n Γ dX1_lay_15 3 rfl ?_
    refine A_iconst (v := 0) Γ dX1_lay_16 (by decide) ?_
    refine A_aload_n Γ dX1_lay_17 1 rfl ?_
    refine g1_6 Γ Ξ dX1_lay_18 ?_
    refine A_iload_n Γ dX1_lay_21 2 rfl ?_
    replace h := b1 h
    obtain ⟨v4, e5, h⟩ := h
    refine r1_6 Γ Ξ e5 dX1_lay_22 ?_
    refine A_iconst (v := 1) Γ dX1_lay_23 (by decide) ?_
    refine A_isub Γ dX1_lay_24 ?_
    replace h := b1 h
    obtain ⟨v7, e6, h⟩ := h
    refine kX1_X1in Γ (kpX Ξ) hRm (by decide) (by decide) e6 (Nat.le_of_ble_eq_true rfl) dX1_lay_25 ?_
    refine A_if_ne (t := 37) Γ dX1_lay_28 (by decide) (fun c => ?_) (fun c => ?_)
    · replace h := it_f c h
      refine A_aload_n Γ dX1_lay_37 1 rfl ?_
      refine A_aload_n Γ dX1_lay_38 1 rfl ?_
      refine g1_7 Γ Ξ dX1_lay_39 ?_
      refine A_bipush (v := 40) Γ dX1_lay_42 (by decide) ?_
      refine A_iload_n Γ dX1_lay_44 2 rfl ?_
      refine A_imul Γ dX1_lay_45 ?_
      refine A_iload_n Γ dX1_lay_46 3 rfl ?_
      refine A_iadd Γ dX1_lay_47 ?_
      replace h := b1 h
      obtain ⟨v8, e9, h⟩ := h
      refine r1_7 Γ Ξ e9 dX1_lay_48 ?_
      refine p1_2 Γ Ξ dX1_lay_49 ?_
      refine A_aload_n Γ dX1_lay_52 1 rfl ?_
      refine g1_7 Γ Ξ dX1_lay_53 ?_
      refine A_bipush (v := 40) Γ dX1_lay_56 (by decide) ?_
      refine A_iload_n Γ dX1_lay_58 2 rfl ?_
      refine A_imul Γ dX1_lay_59 ?_
      refine A_iload_n Γ dX1_lay_60 3 rfl ?_
      refine A_iadd Γ dX1_lay_61 ?_
      refine A_iload_n Γ dX1_lay_62 4 rfl ?_
      replace h := b1 h
      obtain ⟨σ10, e11, h⟩ := h
      refine w1_7 Γ Ξ e11 dX1_lay_63 ?_
      refine A_iconst (v := 1) Γ dX1_lay_64 (by decide) ?_
      obtain ⟨rfl, rfl⟩ := inj2 h
      exact hret _ _ dX1_lay_65
    · replace h := it_t c h
      refine A_aload_n Γ dX1_lay_31 1 rfl ?_
      refine A_iconst (v := 2) Γ dX1_lay_32 (by decide) ?_
      replace h := b2 h
      obtain ⟨v13, σ14, e12, h⟩ := h
      refine kX1_X1meets Γ Ξ hRm (by decide) (by decide) e12 (Nat.le_of_ble_eq_true rfl) dX1_lay_33 ?_
      obtain ⟨rfl, rfl⟩ := inj2 h
      exact hret _ _ dX1_lay_36
  · replace h := it_f c h
    refine A_iload Γ dX1_lay_12 0 rfl ?_
    obtain ⟨rfl, rfl⟩ := inj2 h
    exact hret _ _ dX1_lay_14
theorem mtX1_lay (l : Launch) (X : Xw) {σ σ' : St} {a1 : Int32} {a2 : Int32} {a3 : Int32} {r : Int32} (h : m_lay σ a1 a2 a3 = some (r, σ')) : MetZ 1 l X yX1_lay cX1_lay 5 (some .int) 3 63 [.ref (xo X), .int a1, .int a2, .int a3] σ (some (.int r)) σ' := MetZ.ofAt (by decide) (Nat.le_of_ble_eq_true rfl) (fun G _ Γ Ξ hR hret => wkX1_lay Γ Ξ hR h hret)

set_option maxHeartbeats 4000000 in
set_option maxRecDepth 100000 in
theorem wkX1_tear {G : Gx} {X : Xw} {σ σ' : St} (Γ : Ok G RX1 cX1_tear 3) (Ξ : OkX 1 G X) (hRm : Rm G 3 63) {a1 : Int32} {r : Int32} (h : m_tear σ a1 = some (r, σ')) (hret : ∀ (pc : Nat) (lv : List (Nat × Value)), retIs cX1_tear (some .int) (some (.int r)) pc → At G 3 σ' lv [.int r] pc) : At G 3 σ [(0, .ref (xo X)), (1, .int a1)] [] 0 := by
  rw [m_tear] at h
  refine A_aload_n Γ dX1_tear_0 0 rfl ?_
  refine A_iload_n Γ dX1_tear_1 1 rfl ?_
  replace h := b2 h
  obtain ⟨v2, σ3, e1, h⟩ := h
  refine kX1_X1askedRow Γ Ξ hRm (by decide) (by decide) e1 (Nat.le_of_ble_eq_true rfl) dX1_tear_2 ?_
  refine A_istore_n (lv' := [(2, .int v2), (0, .ref (xo X)), (1, .int a1)]) Γ dX1_tear_5 (by decide) rfl ?_
  refine A_iload_n Γ dX1_tear_6 0 rfl ?_
  refine A_if_ge (t := 12) Γ dX1_tear_7 (by decide) (fun c => ?_) (fun c => ?_)
  · replace h := it_t c h
    refine A_aload_n Γ dX1_tear_12 1 rfl ?_
    refine g1_6 Γ Ξ dX1_tear_13 ?_
    refine A_iload_n Γ dX1_tear_16 2 rfl ?_
    refine A_bipush (v := (-9)) Γ dX1_tear_17 (by decide) ?_
    replace h := b1 h
    obtain ⟨σ4, e5, h⟩ := h
    refine w1_6 Γ Ξ e5 dX1_tear_19 ?_
    refine A_iconst (v := 1) Γ dX1_tear_20 (by decide) ?_
    obtain ⟨rfl, rfl⟩ := inj2 h
    exact hret _ _ dX1_tear_21
  · replace h := it_f c h
    refine A_iload_n Γ dX1_tear_10 0 rfl ?_
    obtain ⟨rfl, rfl⟩ := inj2 h
    exact hret _ _ dX1_tear_11
theorem mtX1_tear (l : Launch) (X : Xw) {σ σ' : St} {a1 : Int32} {r : Int32} (h : m_tear σ a1 = some (r, σ')) : MetZ 1 l X yX1_tear cX1_tear 3 (some .int) 3 63 [.ref (xo X), .int a1] σ (some (.int r)) σ' := MetZ.ofAt (by decide) (Nat.le_of_ble_eq_true rfl) (fun G _ Γ Ξ hR hret => wkX1_tear Γ Ξ hR h hret)

set_option maxHeartbeats 4000000 in
set_option maxRecDepth 100000 in
theorem wkX1_copy {G : Gx} {X : Xw} {σ σ' : St} (Γ : Ok G RX1 cX1_copy 7) (Ξ : OkX 1 G X) (hRm : Rm G 2 42) {a1 : Int32} {a2 : Int32} {a3 : Int32} {a4 : Int32} {a5 : Int32} {r : Int32} (h : m_copy σ a1 a2 a3 a4 a5 = some (r, σ')) (hret : ∀ (pc : Nat) (lv : List (Nat × Value)), retIs cX1_copy (some .int) (some (.int r)) pc → At G 7 σ' lv [.int r] pc) : At G 7 σ [(0, .ref (xo X)), (1, .int a1), (2, .int a2), (3, .int a3), (4, .int a4), (5, .int a5)] [] 0 := by
  rw [m_copy] at h
  refine A_iload_n Γ dX1_copy_0 1 rfl ?_
  replace h := b1 h
  obtain ⟨v2, e1, h⟩ := h
  refine kX1_X1isRow Γ (kpX Ξ) hRm (by decide) (by decide) e1 (Nat.le_of_ble_eq_true rfl) dX1_copy_1 ?_
  refine A_if_eq (t := 14) Γ dX1_copy_4 (by decide) (fun c => ?_) (fun c => ?_)
  · replace h := it_t c h
    refine A_iconst (v := (-1)) Γ dX1_copy_14 (by decide) ?_
    obtain ⟨rfl, rfl⟩ := inj2 h
    exact hret _ _ dX1_copy_15
  · replace h := it_f c h
    refine A_iload_n Γ dX1_copy_7 3 rfl ?_
    replace h := b1 h
    obtain ⟨v4, e3, h⟩ := h
    refine kX1_X1isRow Γ (kpX Ξ) hRm (by decide) (by decide) e3 (Nat.le_of_ble_eq_true rfl) dX1_copy_8 ?_
    refine A_if_ne (t := 16) Γ dX1_copy_11 (by decide) (fun c => ?_) (fun c => ?_)
    · replace h := it_f c h
      refine A_iload Γ dX1_copy_16 5 rfl ?_
      refine A_if_ge (t := 27) Γ dX1_copy_18 (by decide) (fun c => ?_) (fun c => ?_)
      · replace h := it_t c h
        refine A_aload_n Γ dX1_copy_27 0 rfl ?_
        refine g1_6 Γ Ξ dX1_copy_28 ?_
        refine A_iload_n Γ dX1_copy_31 1 rfl ?_
        replace h := b1 h
        obtain ⟨v5, e6, h⟩ := h
        refine r1_6 Γ Ξ e6 dX1_copy_32 ?_
        refine A_if_lt (t := 45) Γ dX1_copy_33 (by decide) (fun c => ?_) (fun c => ?_)
        · replace h := it_t c h
          refine A_aload_n Γ dX1_copy_45 0 rfl ?_
          refine A_iconst (v := 1) Γ dX1_copy_46 (by decide) ?_
          replace h := b2 h
          obtain ⟨v8, σ9, e7, h⟩ := h
          refine kX1_X1meets Γ Ξ hRm (by decide) (by decide) e7 (Nat.le_of_ble_eq_true rfl) dX1_copy_47 ?_
          obtain ⟨rfl, rfl⟩ := inj2 h
          exact hret _ _ dX1_copy_50
        · replace h := it_f c h
          refine A_aload_n Γ dX1_copy_36 0 rfl ?_
          refine g1_6 Γ Ξ dX1_copy_37 ?_
          refine A_iload_n Γ dX1_copy_40 3 rfl ?_
          replace h := b1 h
          obtain ⟨v10, e11, h⟩ := h
          refine r1_6 Γ Ξ e11 dX1_copy_41 ?_
          refine A_if_ge (t := 51) Γ dX1_copy_42 (by decide) (fun c => ?_) (fun c => ?_)
          · replace h := it_t c h
            refine A_iload_n Γ dX1_copy_51 2 rfl ?_
            refine A_if_lt (t := 95) Γ dX1_copy_52 (by decide) (fun c => ?_) (fun c => ?_)
            · replace h := it_t c h
              refine A_aload_n Γ dX1_copy_95 0 rfl ?_
              refine A_iconst (v := 2) Γ dX1_copy_96 (by decide) ?_
              replace h := b2 h
              obtain ⟨v13, σ14, e12, h⟩ := h
              refine kX1_X1meets Γ Ξ hRm (by decide) (by decide) e12 (Nat.le_of_ble_eq_true rfl) dX1_copy_97 ?_
              obtain ⟨rfl, rfl⟩ := inj2 h
              exact hret _ _ dX1_copy_100
            · replace h := it_f c h
              refine A_iload Γ dX1_copy_55 4 rfl ?_
              refine A_if_lt (t := 95) Γ dX1_copy_57 (by decide) (fun c => ?_) (fun c => ?_)
              · replace h := it_t c h
                refine A_aload_n Γ dX1_copy_95 0 rfl ?_
                refine A_iconst (v := 2) Γ dX1_copy_96 (by decide) ?_
                replace h := b2 h
                obtain ⟨v16, σ17, e15, h⟩ := h
                refine kX1_X1meets Γ Ξ hRm (by decide) (by decide) e15 (Nat.le_of_ble_eq_true rfl) dX1_copy_97 ?_
                obtain ⟨rfl, rfl⟩ := inj2 h
                exact hret _ _ dX1_copy_100
              · replace h := it_f c h
                refine A_iload_n Γ dX1_copy_60 2 rfl ?_
                refine A_i2l Γ dX1_copy_61 ?_
                refine A_iload Γ dX1_copy_62 5 rfl ?_
                refine A_i2l Γ dX1_copy_64 ?_
                refine A_ladd Γ dX1_copy_65 ?_
                refine A_aload_n Γ dX1_copy_66 0 rfl ?_
                refine g1_6 Γ Ξ dX1_copy_67 ?_
                refine A_iload_n Γ dX1_copy_70 1 rfl ?_
                replace h := b1 h
                obtain ⟨v18, e19, h⟩ := h
                refine r1_6 Γ Ξ e19 dX1_copy_71 ?_
                refine A_i2l Γ dX1_copy_72 ?_
                refine A_lcmp Γ dX1_copy_73 ?_
                refine A_if_gt (t := 95) Γ dX1_copy_74 (by decide) (fun c => ?_) (fun c => ?_)
                · replace h := it_t c h
                  refine A_aload_n Γ dX1_copy_95 0 rfl ?_
                  refine A_iconst (v := 2) Γ dX1_copy_96 (by decide) ?_
                  replace h := b2 h
                  obtain ⟨v21, σ22, e20, h⟩ := h
                  refine kX1_X1meets Γ Ξ hRm (by decide) (by decide) e20 (Nat.le_of_ble_eq_true rfl) dX1_copy_97 ?_
                  obtain ⟨rfl, rfl⟩ := inj2 h
                  exact hret _ _ dX1_copy_100
                · replace h := it_f c h
                  refine A_iload Γ dX1_copy_77 4 rfl ?_
                  refine A_i2l Γ dX1_copy_79 ?_
                  refine A_iload Γ dX1_copy_80 5 rfl ?_
                  refine A_i2l Γ dX1_copy_82 ?_
                  refine A_ladd Γ dX1_copy_83 ?_
                  refine A_aload_n Γ dX1_copy_84 0 rfl ?_
                  refine g1_6 Γ Ξ dX1_copy_85 ?_
                  refine A_iload_n Γ dX1_copy_88 3 rfl ?_
                  replace h := b1 h
                  obtain ⟨v23, e24, h⟩ := h
                  refine r1_6 Γ Ξ e24 dX1_copy_89 ?_
                  refine A_i2l Γ dX1_copy_90 ?_
                  refine A_lcmp Γ dX1_copy_91 ?_
                  refine A_if_le (t := 101) Γ dX1_copy_92 (by decide) (fun c => ?_) (fun c => ?_)
                  · replace h := it_t c h
                    refine A_iconst (v := 0) Γ dX1_copy_101 (by decide) ?_
                    refine A_istore (lv' := [(6, .int 0), (0, .ref (xo X)), (1, .int a1), (2, .int a2), (3, .int a3), (4, .int a4), (5, .int a5)]) Γ dX1_copy_102 (by decide) rfl ?_
                    replace h := b1 h
                    obtain ⟨σ28, eLL25, h⟩ := h
                    have hXL25 : At G 7 σ28 [(0, .ref (xo X)), (3, .int a3), (4, .int a4), (5, .int a5)] [] 138 := by
                      refine A_iconst (v := 0) Γ dX1_copy_138 (by decide) ?_
                      refine A_istore (lv' := [(6, .int 0), (0, .ref (xo X)), (3, .int a3), (4, .int a4), (5, .int a5)]) Γ dX1_copy_139 (by decide) rfl ?_
                      replace h := b1 h
                      obtain ⟨σ36, eLL33, h⟩ := h
                      have hXL33 : At G 7 σ36 [] [] 176 := by
                        refine A_iconst (v := 1) Γ dX1_copy_176 (by decide) ?_
                        obtain ⟨rfl, rfl⟩ := inj2 h
                        exact hret _ _ dX1_copy_177
                      replace eLL33 := lq2_ex eLL33
                      obtain ⟨nL33, eLL33⟩ := eLL33
                      have hLL33 : ∀ (nL33 : Nat) (σ34 : St) (x35 : Int32), lpf2 (m_copy_L33 a3 a4 a5) nL33 σ34 x35 = some σ36 → At G 7 σ34 [(0, .ref (xo X)), (3, .int a3), (4, .int a4), (5, .int a5), (6, .int x35)] [] 141 := by
                        intro nL33
                        induction nL33 with
                        | zero => intro σ34 x35 eL33; exact (lpf2_0 eL33).elim
                        | succ nL33 ihL33 =>
                          intro σ34 x35 eL33
                          replace eL33 := lpf2_s eL33
                          obtain ⟨qL33, eL33, hqL33⟩ := eL33
                          rw [m_copy_L33] at eL33
                          refine A_iload Γ dX1_copy_141 4 rfl ?_
                          refine A_iload Γ dX1_copy_143 3 rfl ?_
                          refine A_icmp_ge (t := 176) Γ dX1_copy_145 (by decide) (fun c => ?_) (fun c => ?_)
                          · replace eL33 := it_t c eL33
                            obtain rfl := pr1 (lpx2 eL33 hqL33)
                            exact A_sub [] rfl hXL33
                          · replace eL33 := it_f c eL33
                            refine A_aload_n Γ dX1_copy_148 0 rfl ?_
                            refine g1_7 Γ Ξ dX1_copy_149 ?_
                            refine A_bipush (v := 40) Γ dX1_copy_152 (by decide) ?_
                            refine A_iload_n Γ dX1_copy_154 1 rfl ?_
                            refine A_imul Γ dX1_copy_155 ?_
                            refine A_iload Γ dX1_copy_156 2 rfl ?_
                            refine A_iadd Γ dX1_copy_158 ?_
                            refine A_iload Γ dX1_copy_159 4 rfl ?_
                            refine A_iadd Γ dX1_copy_161 ?_
                            refine A_aload_n Γ dX1_copy_162 0 rfl ?_
                            refine g1_8 Γ Ξ dX1_copy_163 ?_
                            refine A_iload Γ dX1_copy_166 4 rfl ?_
                            replace eL33 := b1 eL33
                            obtain ⟨v37, e38, eL33⟩ := eL33
                            refine r1_8 Γ Ξ e38 dX1_copy_168 ?_
                            replace eL33 := b1 eL33
                            obtain ⟨σ39, e40, eL33⟩ := eL33
                            refine w1_7 Γ Ξ e40 dX1_copy_169 ?_
                            refine A_iinc (v := x35 + 1) (lv' := [(6, .int (x35 + 1)), (0, .ref (xo X)), (3, .int a3), (4, .int a4), (5, .int a5)]) Γ dX1_copy_170 4 rfl rfl (by decide) rfl ?_
                            refine A_goto (t := 141) Γ dX1_copy_173 (by decide) ?_
                            exact A_sub [1, 2, 3, 4, 0] rfl (ihL33 _ _ (lpc2 eL33 hqL33))
                      exact A_sub [1, 2, 3, 4, 0] rfl (hLL33 _ _ _ eLL33)
                    replace eLL25 := lq2_ex eLL25
                    obtain ⟨nL25, eLL25⟩ := eLL25
                    have hLL25 : ∀ (nL25 : Nat) (σ26 : St) (x27 : Int32), lpf2 (m_copy_L25 a1 a2 a5) nL25 σ26 x27 = some σ28 → At G 7 σ26 [(0, .ref (xo X)), (1, .int a1), (2, .int a2), (3, .int a3), (4, .int a4), (5, .int a5), (6, .int x27)] [] 104 := by
                      intro nL25
                      induction nL25 with
                      | zero => intro σ26 x27 eL25; exact (lpf2_0 eL25).elim
                      | succ nL25 ihL25 =>
                        intro σ26 x27 eL25
                        replace eL25 := lpf2_s eL25
                        obtain ⟨qL25, eL25, hqL25⟩ := eL25
                        rw [m_copy_L25] at eL25
                        refine A_iload Γ dX1_copy_104 6 rfl ?_
                        refine A_iload Γ dX1_copy_106 5 rfl ?_
                        refine A_icmp_ge (t := 138) Γ dX1_copy_108 (by decide) (fun c => ?_) (fun c => ?_)
                        · replace eL25 := it_t c eL25
                          obtain rfl := pr1 (lpx2 eL25 hqL25)
                          exact A_sub [0, 3, 4, 5] rfl hXL25
                        · replace eL25 := it_f c eL25
                          refine A_aload_n Γ dX1_copy_111 0 rfl ?_
                          refine g1_8 Γ Ξ dX1_copy_112 ?_
                          refine A_iload Γ dX1_copy_115 6 rfl ?_
                          refine A_aload_n Γ dX1_copy_117 0 rfl ?_
                          refine g1_7 Γ Ξ dX1_copy_118 ?_
                          refine A_bipush (v := 40) Γ dX1_copy_121 (by decide) ?_
                          refine A_iload_n Γ dX1_copy_123 1 rfl ?_
                          refine A_imul Γ dX1_copy_124 ?_
                          refine A_iload_n Γ dX1_copy_125 2 rfl ?_
                          refine A_iadd Γ dX1_copy_126 ?_
                          refine A_iload Γ dX1_copy_127 6 rfl ?_
                          refine A_iadd Γ dX1_copy_129 ?_
                          replace eL25 := b1 eL25
                          obtain ⟨v29, e30, eL25⟩ := eL25
                          refine r1_7 Γ Ξ e30 dX1_copy_130 ?_
                          replace eL25 := b1 eL25
                          obtain ⟨σ31, e32, eL25⟩ := eL25
                          refine w1_8 Γ Ξ e32 dX1_copy_131 ?_
                          refine A_iinc (v := x27 + 1) (lv' := [(6, .int (x27 + 1)), (0, .ref (xo X)), (1, .int a1), (2, .int a2), (3, .int a3), (4, .int a4), (5, .int a5)]) Γ dX1_copy_132 6 rfl rfl (by decide) rfl ?_
                          refine A_goto (t := 104) Γ dX1_copy_135 (by decide) ?_
                          exact A_sub [1, 2, 3, 4, 5, 6, 0] rfl (ihL25 _ _ (lpc2 eL25 hqL25))
                    exact A_sub [1, 2, 3, 4, 5, 6, 0] rfl (hLL25 _ _ _ eLL25)
                  · replace h := it_f c h
                    refine A_aload_n Γ dX1_copy_95 0 rfl ?_
                    refine A_iconst (v := 2) Γ dX1_copy_96 (by decide) ?_
                    replace h := b2 h
                    obtain ⟨v42, σ43, e41, h⟩ := h
                    refine kX1_X1meets Γ Ξ hRm (by decide) (by decide) e41 (Nat.le_of_ble_eq_true rfl) dX1_copy_97 ?_
                    obtain ⟨rfl, rfl⟩ := inj2 h
                    exact hret _ _ dX1_copy_100
          · replace h := it_f c h
            refine A_aload_n Γ dX1_copy_45 0 rfl ?_
            refine A_iconst (v := 1) Γ dX1_copy_46 (by decide) ?_
            replace h := b2 h
            obtain ⟨v45, σ46, e44, h⟩ := h
            refine kX1_X1meets Γ Ξ hRm (by decide) (by decide) e44 (Nat.le_of_ble_eq_true rfl) dX1_copy_47 ?_
            obtain ⟨rfl, rfl⟩ := inj2 h
            exact hret _ _ dX1_copy_50
      · replace h := it_f c h
        refine A_aload_n Γ dX1_copy_21 0 rfl ?_
        refine A_iconst (v := 5) Γ dX1_copy_22 (by decide) ?_
        replace h := b2 h
        obtain ⟨v48, σ49, e47, h⟩ := h
        refine kX1_X1meets Γ Ξ hRm (by decide) (by decide) e47 (Nat.le_of_ble_eq_true rfl) dX1_copy_23 ?_
        obtain ⟨rfl, rfl⟩ := inj2 h
        exact hret _ _ dX1_copy_26
    · replace h := it_t c h
      refine A_iconst (v := (-1)) Γ dX1_copy_14 (by decide) ?_
      obtain ⟨rfl, rfl⟩ := inj2 h
      exact hret _ _ dX1_copy_15
theorem mtX1_copy (l : Launch) (X : Xw) {σ σ' : St} {a1 : Int32} {a2 : Int32} {a3 : Int32} {a4 : Int32} {a5 : Int32} {r : Int32} (h : m_copy σ a1 a2 a3 a4 a5 = some (r, σ')) : MetZ 1 l X yX1_copy cX1_copy 7 (some .int) 2 42 [.ref (xo X), .int a1, .int a2, .int a3, .int a4, .int a5] σ (some (.int r)) σ' := MetZ.ofAt (by decide) (Nat.le_of_ble_eq_true rfl) (fun G _ Γ Ξ hR hret => wkX1_copy Γ Ξ hR h hret)

set_option maxHeartbeats 4000000 in
set_option maxRecDepth 100000 in
theorem wkX1_isText {G : Gx} {X : Xw} {σ : St} (Γ : Ok G RX1 cX1_isText 1) (hkp : ∀ (H H1 : Heap), gP G σ H → (∀ q : Nat, q < H.size → H1[q]? = H[q]?) → gP G σ H1) (hRm : Rm G 1 22) {a0 : Int32} {r : Int32} (h : m_isText a0 = some r) (hret : ∀ (pc : Nat) (lv : List (Nat × Value)), retIs cX1_isText (some .boolean) (some (.int r)) pc → At G 1 σ lv [.int r] pc) : At G 1 σ [(0, .int a0)] [] 0 := by
  rw [m_isText] at h
  refine A_iload_n Γ dX1_isText_0 0 rfl ?_
  refine A_iconst (v := 0) Γ dX1_isText_1 (by decide) ?_
  refine A_iconst (v := 3) Γ dX1_isText_2 (by decide) ?_
  replace h := b1 h
  obtain ⟨v2, e1, h⟩ := h
  refine kX1_X1in Γ hkp hRm (by decide) (by decide) e1 (Nat.le_of_ble_eq_true rfl) dX1_isText_3 ?_
  replace h := b1 h
  obtain ⟨v4, e3, h⟩ := h
  obtain ⟨rfl, hze3⟩ := bZ_in e3
  obtain rfl := inj1 h
  exact hret _ _ ⟨dX1_isText_6, hze3⟩
theorem mtX1_isText (l : Launch) {a0 : Int32} {r : Int32} (h : m_isText a0 = some r) : MetS l yX1_isText cX1_isText 1 (some .boolean) 1 22 [.int a0] (some (.int r)) := MetS.ofAt ((fun _ => 0), (fun _ => 0), (fun _ _ => 0), (fun _ _ => 0), fun _ => none) (by decide) (Nat.le_of_ble_eq_true rfl) (fun G _ Γ hR hp hret => wkX1_isText (X := (0, (fun _ => 0), (fun _ => 0), (fun _ _ => 0), (fun _ => 0), (fun _ => True))) Γ hp hR h hret)
theorem kX1_X1isText {G : Gx} {cc : ByteArray} {nL pc F LO : Nat} {σ : St} {lv : List (Nat × Value)} {st : List Value} (Γ : Ok G RX1 cc nL) (hkp : ∀ (H H1 : Heap), gP G σ H → (∀ q : Nat, q < H.size → H1[q]? = H[q]?) → gP G σ H1) {a0 : Int32} {r : Int32} (hRm : Rm G F LO) (hf : 1 + 1 ≤ F) (hlo : 8 + (1 + 11) + 22 ≤ LO) (h : m_isText a0 = some r) (hW : (st.map fun v => v.category).sum ≤ 8) (d : decode cc pc = .ok (.invokestatic 200, 3)) (kk : At G nL σ lv (.int r :: st) (pc + 3)) : At G nL σ lv (.int a0 :: st) pc := A_callS Γ hkp rfl (mtX1_isText (gl G) h) (lw_S q1323 q1324 q64 q1325) (n := 1) (by decide +kernel) (rm_ok hRm hf hlo) (rm_k hRm) rfl rfl hW d kk
set_option maxHeartbeats 4000000 in
set_option maxRecDepth 100000 in
theorem wkX1_askedText {G : Gx} {X : Xw} {σ σ' : St} (Γ : Ok G RX1 cX1_askedText 2) (Ξ : OkX 1 G X) (hRm : Rm G 2 42) {a1 : Int32} {r : Int32} (h : m_askedText σ a1 = some (r, σ')) (hret : ∀ (pc : Nat) (lv : List (Nat × Value)), retIs cX1_askedText (some .int) (some (.int r)) pc → At G 2 σ' lv [.int r] pc) : At G 2 σ [(0, .ref (xo X)), (1, .int a1)] [] 0 := by
  rw [m_askedText] at h
  refine A_iload_n Γ dX1_askedText_0 1 rfl ?_
  replace h := b1 h
  obtain ⟨v2, e1, h⟩ := h
  refine kX1_X1isText Γ (kpX Ξ) hRm (by decide) (by decide) e1 (Nat.le_of_ble_eq_true rfl) dX1_askedText_1 ?_
  replace h := b2 h
  obtain ⟨σ4, x5, eJ3, h⟩ := h
  have hJJ3 : At G 2 σ4 [] [.int x5] 29 := by
    obtain ⟨rfl, rfl⟩ := inj2 h
    exact hret _ _ dX1_askedText_29
  refine A_if_ne (t := 11) Γ dX1_askedText_4 (by decide) (fun c => ?_) (fun c => ?_)
  · replace eJ3 := it_f c eJ3
    refine A_aload_n Γ dX1_askedText_11 0 rfl ?_
    refine g1_9 Γ Ξ dX1_askedText_12 ?_
    refine A_iload_n Γ dX1_askedText_15 1 rfl ?_
    replace eJ3 := b1 eJ3
    obtain ⟨v6, e7, eJ3⟩ := eJ3
    refine r1_9 Γ Ξ e7 dX1_askedText_16 ?_
    refine A_if_ge (t := 28) Γ dX1_askedText_17 (by decide) (fun c => ?_) (fun c => ?_)
    · replace eJ3 := it_t c eJ3
      refine A_iconst (v := 0) Γ dX1_askedText_28 (by decide) ?_
      obtain ⟨rfl, rfl⟩ := inj2 eJ3
      exact A_sub [] rfl hJJ3
    · replace eJ3 := it_f c eJ3
      refine A_aload_n Γ dX1_askedText_20 0 rfl ?_
      refine A_iconst (v := 1) Γ dX1_askedText_21 (by decide) ?_
      replace eJ3 := b2 eJ3
      obtain ⟨v9, σ10, e8, eJ3⟩ := eJ3
      refine kX1_X1meets Γ Ξ hRm (by decide) (by decide) e8 (Nat.le_of_ble_eq_true rfl) dX1_askedText_22 ?_
      refine A_goto (t := 29) Γ dX1_askedText_25 (by decide) ?_
      obtain ⟨rfl, rfl⟩ := inj2 eJ3
      exact A_sub [] rfl hJJ3
  · replace eJ3 := it_t c eJ3
    refine A_iconst (v := (-1)) Γ dX1_askedText_7 (by decide) ?_
    refine A_goto (t := 29) Γ dX1_askedText_8 (by decide) ?_
    obtain ⟨rfl, rfl⟩ := inj2 eJ3
    exact A_sub [] rfl hJJ3
theorem mtX1_askedText (l : Launch) (X : Xw) {σ σ' : St} {a1 : Int32} {r : Int32} (h : m_askedText σ a1 = some (r, σ')) : MetZ 1 l X yX1_askedText cX1_askedText 2 (some .int) 2 42 [.ref (xo X), .int a1] σ (some (.int r)) σ' := MetZ.ofAt (by decide) (Nat.le_of_ble_eq_true rfl) (fun G _ Γ Ξ hR hret => wkX1_askedText Γ Ξ hR h hret)
theorem kX1_X1askedText {G : Gx} {X : Xw} {cc : ByteArray} {nL pc F LO : Nat} {σ σ' : St} {lv : List (Nat × Value)} {st : List Value} (Γ : Ok G RX1 cc nL) (Ξ : OkX 1 G X) {a1 : Int32} {r : Int32} (hRm : Rm G F LO) (hf : 2 + 1 ≤ F) (hlo : 8 + (2 + 11) + 42 ≤ LO) (h : m_askedText σ a1 = some (r, σ')) (hW : (st.map fun v => v.category).sum ≤ 8) (d : decode cc pc = .ok (.invokevirtual 203, 3)) (kk : At G nL σ' lv (.int r :: st) (pc + 3)) : At G nL σ lv (.int a1 :: .ref (xo X) :: st) pc := A_callV Γ Ξ rfl rfl (mtX1_askedText (gl G) X h) (lw_V q1330 q1332 qs33 q64 q1333) (n := 1) (by decide +kernel) (rm_ok hRm hf hlo) (rm_k hRm) rfl rfl hW d kk
set_option maxHeartbeats 4000000 in
set_option maxRecDepth 100000 in
theorem wkX1_text {G : Gx} {X : Xw} {σ σ' : St} (Γ : Ok G RX1 cX1_text 4) (Ξ : OkX 1 G X) (hRm : Rm G 2 42) {a1 : Int32} {a2 : Int32} {r : Int32} (h : m_text σ a1 a2 = some (r, σ')) (hret : ∀ (pc : Nat) (lv : List (Nat × Value)), retIs cX1_text (some .int) (some (.int r)) pc → At G 4 σ' lv [.int r] pc) : At G 4 σ [(0, .ref (xo X)), (1, .int a1), (2, .int a2)] [] 0 := by
  rw [m_text] at h
  refine A_iload_n Γ dX1_text_0 1 rfl ?_
  replace h := b1 h
  obtain ⟨v2, e1, h⟩ := h
  refine kX1_X1isText Γ (kpX Ξ) hRm (by decide) (by decide) e1 (Nat.le_of_ble_eq_true rfl) dX1_text_1 ?_
  refine A_if_eq (t := 13) Γ dX1_text_4 (by decide) (fun c => ?_) (fun c => ?_)
  · replace h := it_t c h
    refine A_iconst (v := (-1)) Γ dX1_text_13 (by decide) ?_
    obtain ⟨rfl, rfl⟩ := inj2 h
    exact hret _ _ dX1_text_14
  · replace h := it_f c h
    refine A_iload_n Γ dX1_text_7 2 rfl ?_
    refine A_bipush (v := 40) Γ dX1_text_8 (by decide) ?_
    refine A_icmp_le (t := 15) Γ dX1_text_10 (by decide) (fun c => ?_) (fun c => ?_)
    · replace h := it_t c h
      refine A_iload_n Γ dX1_text_15 2 rfl ?_
      refine A_if_ge (t := 25) Γ dX1_text_16 (by decide) (fun c => ?_) (fun c => ?_)
      · replace h := it_t c h
        refine A_aload_n Γ dX1_text_25 0 rfl ?_
        refine g1_9 Γ Ξ dX1_text_26 ?_
        refine A_iload_n Γ dX1_text_29 1 rfl ?_
        refine A_iload_n Γ dX1_text_30 2 rfl ?_
        replace h := b1 h
        obtain ⟨σ3, e4, h⟩ := h
        refine w1_9 Γ Ξ e4 dX1_text_31 ?_
        refine A_iconst (v := 0) Γ dX1_text_32 (by decide) ?_
        refine A_istore_n (lv' := [(3, .int 0), (0, .ref (xo X)), (1, .int a1), (2, .int a2)]) Γ dX1_text_33 (by decide) rfl ?_
        replace h := b1 h
        obtain ⟨σ8, eLL5, h⟩ := h
        have hXL5 : At G 4 σ8 [(2, .int a2)] [] 59 := by
          refine A_iload_n Γ dX1_text_59 0 rfl ?_
          obtain ⟨rfl, rfl⟩ := inj2 h
          exact hret _ _ dX1_text_60
        replace eLL5 := lq2_ex eLL5
        obtain ⟨nL5, eLL5⟩ := eLL5
        have hLL5 : ∀ (nL5 : Nat) (σ6 : St) (x7 : Int32), lpf2 (m_text_L5 a1) nL5 σ6 x7 = some σ8 → At G 4 σ6 [(0, .ref (xo X)), (1, .int a1), (2, .int a2), (3, .int x7)] [] 34 := by
          intro nL5
          induction nL5 with
          | zero => intro σ6 x7 eL5; exact (lpf2_0 eL5).elim
          | succ nL5 ihL5 =>
            intro σ6 x7 eL5
            replace eL5 := lpf2_s eL5
            obtain ⟨qL5, eL5, hqL5⟩ := eL5
            rw [m_text_L5] at eL5
            refine A_iload_n Γ dX1_text_34 3 rfl ?_
            refine A_bipush (v := 40) Γ dX1_text_35 (by decide) ?_
            refine A_icmp_ge (t := 59) Γ dX1_text_37 (by decide) (fun c => ?_) (fun c => ?_)
            · replace eL5 := it_t c eL5
              obtain rfl := pr1 (lpx2 eL5 hqL5)
              exact A_sub [2] rfl hXL5
            · replace eL5 := it_f c eL5
              refine A_aload_n Γ dX1_text_40 0 rfl ?_
              refine g1_10 Γ Ξ dX1_text_41 ?_
              refine A_bipush (v := 40) Γ dX1_text_44 (by decide) ?_
              refine A_iload_n Γ dX1_text_46 1 rfl ?_
              refine A_imul Γ dX1_text_47 ?_
              refine A_iload_n Γ dX1_text_48 3 rfl ?_
              refine A_iadd Γ dX1_text_49 ?_
              refine A_bipush (v := 32) Γ dX1_text_50 (by decide) ?_
              replace eL5 := b1 eL5
              obtain ⟨σ9, e10, eL5⟩ := eL5
              refine w1_10 Γ Ξ e10 dX1_text_52 ?_
              refine A_iinc (v := x7 + 1) (lv' := [(3, .int (x7 + 1)), (0, .ref (xo X)), (1, .int a1), (2, .int a2)]) Γ dX1_text_53 3 rfl rfl (by decide) rfl ?_
              refine A_goto (t := 34) Γ dX1_text_56 (by decide) ?_
              exact A_sub [1, 2, 3, 0] rfl (ihL5 _ _ (lpc2 eL5 hqL5))
        exact A_sub [1, 2, 3, 0] rfl (hLL5 _ _ _ eLL5)
      · replace h := it_f c h
        refine A_aload_n Γ dX1_text_19 0 rfl ?_
        refine A_iconst (v := 5) Γ dX1_text_20 (by decide) ?_
        replace h := b2 h
        obtain ⟨v12, σ13, e11, h⟩ := h
        refine kX1_X1meets Γ Ξ hRm (by decide) (by decide) e11 (Nat.le_of_ble_eq_true rfl) dX1_text_21 ?_
        obtain ⟨rfl, rfl⟩ := inj2 h
        exact hret _ _ dX1_text_24
    · replace h := it_f c h
      refine A_iconst (v := (-1)) Γ dX1_text_13 (by decide) ?_
      obtain ⟨rfl, rfl⟩ := inj2 h
      exact hret _ _ dX1_text_14
theorem mtX1_text (l : Launch) (X : Xw) {σ σ' : St} {a1 : Int32} {a2 : Int32} {r : Int32} (h : m_text σ a1 a2 = some (r, σ')) : MetZ 1 l X yX1_text cX1_text 4 (some .int) 2 42 [.ref (xo X), .int a1, .int a2] σ (some (.int r)) σ' := MetZ.ofAt (by decide) (Nat.le_of_ble_eq_true rfl) (fun G _ Γ Ξ hR hret => wkX1_text Γ Ξ hR h hret)

set_option maxHeartbeats 4000000 in
set_option maxRecDepth 100000 in
theorem wkX1_put {G : Gx} {X : Xw} {σ σ' : St} (Γ : Ok G RX1 cX1_put 6) (Ξ : OkX 1 G X) (hRm : Rm G 3 63) {a1 : Int32} {a2 : Int32} {a3 : Int32} {r : Int32} (h : m_put σ a1 a2 a3 = some (r, σ')) (hret : ∀ (pc : Nat) (lv : List (Nat × Value)), retIs cX1_put (some .int) (some (.int r)) pc → At G 6 σ' lv [.int r] pc) : At G 6 σ [(0, .ref (xo X)), (1, .int a1), (2, .int a2), (3, .int a3)] [] 0 := by
  rw [m_put] at h
  refine A_aload_n Γ dX1_put_0 0 rfl ?_
  refine A_iload_n Γ dX1_put_1 1 rfl ?_
  replace h := b2 h
  obtain ⟨v2, σ3, e1, h⟩ := h
  refine kX1_X1askedText Γ Ξ hRm (by decide) (by decide) e1 (Nat.le_of_ble_eq_true rfl) dX1_put_2 ?_
  refine A_istore (lv' := [(4, .int v2), (0, .ref (xo X)), (1, .int a1), (2, .int a2), (3, .int a3)]) Γ dX1_put_5 (by decide) rfl ?_
  refine A_iload Γ dX1_put_7 0 rfl ?_
  refine A_if_ge (t := 15) Γ dX1_put_9 (by decide) (fun c => ?_) (fun c => ?_)
  · replace h := it_t c h
    refine A_iload_n Γ dX1_put_15 3 rfl ?_
    refine A_iconst (v := 0) Γ dX1_put_16 (by decide) ?_
    refine A_aload_n Γ dX1_put_17 1 rfl ?_
    refine g1_9 Γ Ξ dX1_put_18 ?_
    refine A_iload_n Γ dX1_put_21 2 rfl ?_
    replace h := b1 h
    obtain ⟨v4, e5, h⟩ := h
    refine r1_9 Γ Ξ e5 dX1_put_22 ?_
    refine A_iconst (v := 1) Γ dX1_put_23 (by decide) ?_
    refine A_isub Γ dX1_put_24 ?_
    replace h := b1 h
    obtain ⟨v7, e6, h⟩ := h
    refine kX1_X1in Γ (kpX Ξ) hRm (by decide) (by decide) e6 (Nat.le_of_ble_eq_true rfl) dX1_put_25 ?_
    refine A_if_ne (t := 37) Γ dX1_put_28 (by decide) (fun c => ?_) (fun c => ?_)
    · replace h := it_f c h
      refine A_aload_n Γ dX1_put_37 1 rfl ?_
      refine g1_10 Γ Ξ dX1_put_38 ?_
      refine A_bipush (v := 40) Γ dX1_put_41 (by decide) ?_
      refine A_iload_n Γ dX1_put_43 2 rfl ?_
      refine A_imul Γ dX1_put_44 ?_
      refine A_iload_n Γ dX1_put_45 3 rfl ?_
      refine A_iadd Γ dX1_put_46 ?_
      replace h := b1 h
      obtain ⟨v8, e9, h⟩ := h
      refine r1_10 Γ Ξ e9 dX1_put_47 ?_
      refine A_istore (lv' := [(5, .int v8), (4, .int v2), (0, .ref (xo X)), (1, .int a1), (2, .int a2), (3, .int a3)]) Γ dX1_put_48 (by decide) rfl ?_
      refine A_aload_n Γ dX1_put_50 2 rfl ?_
      refine g1_10 Γ Ξ dX1_put_51 ?_
      refine A_bipush (v := 40) Γ dX1_put_54 (by decide) ?_
      refine A_iload_n Γ dX1_put_56 3 rfl ?_
      refine A_imul Γ dX1_put_57 ?_
      refine A_iload_n Γ dX1_put_58 4 rfl ?_
      refine A_iadd Γ dX1_put_59 ?_
      refine A_iload_n Γ dX1_put_60 5 rfl ?_
      refine A_i2b Γ dX1_put_61 ?_
      replace h := b1 h
      obtain ⟨σ10, e11, h⟩ := h
      refine w1_10 Γ Ξ e11 dX1_put_62 ?_
      refine A_iload Γ dX1_put_63 0 rfl ?_
      refine A_sipush (v := 1000) Γ dX1_put_65 (by decide) ?_
      refine A_iadd Γ dX1_put_68 ?_
      obtain ⟨rfl, rfl⟩ := inj2 h
      exact hret _ _ dX1_put_69
    · replace h := it_t c h
      refine A_aload_n Γ dX1_put_31 1 rfl ?_
      refine A_iconst (v := 2) Γ dX1_put_32 (by decide) ?_
      replace h := b2 h
      obtain ⟨v13, σ14, e12, h⟩ := h
      refine kX1_X1meets Γ Ξ hRm (by decide) (by decide) e12 (Nat.le_of_ble_eq_true rfl) dX1_put_33 ?_
      obtain ⟨rfl, rfl⟩ := inj2 h
      exact hret _ _ dX1_put_36
  · replace h := it_f c h
    refine A_iload Γ dX1_put_12 0 rfl ?_
    obtain ⟨rfl, rfl⟩ := inj2 h
    exact hret _ _ dX1_put_14
theorem mtX1_put (l : Launch) (X : Xw) {σ σ' : St} {a1 : Int32} {a2 : Int32} {a3 : Int32} {r : Int32} (h : m_put σ a1 a2 a3 = some (r, σ')) : MetZ 1 l X yX1_put cX1_put 6 (some .int) 3 63 [.ref (xo X), .int a1, .int a2, .int a3] σ (some (.int r)) σ' := MetZ.ofAt (by decide) (Nat.le_of_ble_eq_true rfl) (fun G _ Γ Ξ hR hret => wkX1_put Γ Ξ hR h hret)

set_option maxHeartbeats 4000000 in
set_option maxRecDepth 100000 in
theorem wkX1_later {G : Gx} {X : Xw} {σ σ' : St} (Γ : Ok G RX1 cX1_later 2) (Ξ : OkX 1 G X) (hRm : Rm G 0 0) {a1 : Int32} {r : Int32} (h : m_later σ a1 = some (r, σ')) (hret : ∀ (pc : Nat) (lv : List (Nat × Value)), retIs cX1_later (some .int) (some (.int r)) pc → At G 2 σ' lv [.int r] pc) : At G 2 σ [(0, .ref (xo X)), (1, .int a1)] [] 0 := by
  rw [m_later] at h
  refine A_iload_n Γ dX1_later_0 1 rfl ?_
  refine A_if_lt (t := 15) Γ dX1_later_1 (by decide) (fun c => ?_) (fun c => ?_)
  · replace h := it_t c h
    refine A_iconst (v := (-1)) Γ dX1_later_15 (by decide) ?_
    obtain ⟨rfl, rfl⟩ := inj2 h
    exact hret _ _ dX1_later_16
  · replace h := it_f c h
    refine A_iload_n Γ dX1_later_4 1 rfl ?_
    refine A_ldc (v := 99999) Γ q1338 dX1_later_5 ?_
    refine A_aload_n Γ dX1_later_7 0 rfl ?_
    refine g1_5 Γ Ξ dX1_later_8 ?_
    refine A_isub Γ dX1_later_11 ?_
    refine A_icmp_le (t := 17) Γ dX1_later_12 (by decide) (fun c => ?_) (fun c => ?_)
    · replace h := it_t c h
      refine A_aload_n Γ dX1_later_17 0 rfl ?_
      refine A_dup Γ dX1_later_18 rfl ?_
      refine g1_5 Γ Ξ dX1_later_19 ?_
      refine A_iload_n Γ dX1_later_22 1 rfl ?_
      refine A_iadd Γ dX1_later_23 ?_
      refine p1_5 Γ Ξ dX1_later_24 ?_
      refine A_aload_n Γ dX1_later_27 0 rfl ?_
      refine g1_5 Γ Ξ dX1_later_28 ?_
      obtain ⟨rfl, rfl⟩ := inj2 h
      exact hret _ _ dX1_later_31
    · replace h := it_f c h
      refine A_iconst (v := (-1)) Γ dX1_later_15 (by decide) ?_
      obtain ⟨rfl, rfl⟩ := inj2 h
      exact hret _ _ dX1_later_16
theorem mtX1_later (l : Launch) (X : Xw) {σ σ' : St} {a1 : Int32} {r : Int32} (h : m_later σ a1 = some (r, σ')) : MetZ 1 l X yX1_later cX1_later 2 (some .int) 0 0 [.ref (xo X), .int a1] σ (some (.int r)) σ' := MetZ.ofAt (by decide) (Nat.le_of_ble_eq_true rfl) (fun G _ Γ Ξ hR hret => wkX1_later Γ Ξ hR h hret)

set_option maxHeartbeats 4000000 in
set_option maxRecDepth 100000 in
theorem wkX1_isYard {G : Gx} {X : Xw} {σ : St} (Γ : Ok G RX1 cX1_isYard 1) (hkp : ∀ (H H1 : Heap), gP G σ H → (∀ q : Nat, q < H.size → H1[q]? = H[q]?) → gP G σ H1) (hRm : Rm G 1 22) {a0 : Int32} {r : Int32} (h : m_isYard a0 = some r) (hret : ∀ (pc : Nat) (lv : List (Nat × Value)), retIs cX1_isYard (some .boolean) (some (.int r)) pc → At G 1 σ lv [.int r] pc) : At G 1 σ [(0, .int a0)] [] 0 := by
  rw [m_isYard] at h
  refine A_iload_n Γ dX1_isYard_0 0 rfl ?_
  refine A_iconst (v := 0) Γ dX1_isYard_1 (by decide) ?_
  refine A_bipush (v := 7) Γ dX1_isYard_2 (by decide) ?_
  replace h := b1 h
  obtain ⟨v2, e1, h⟩ := h
  refine kX1_X1in Γ hkp hRm (by decide) (by decide) e1 (Nat.le_of_ble_eq_true rfl) dX1_isYard_4 ?_
  replace h := b1 h
  obtain ⟨v4, e3, h⟩ := h
  obtain ⟨rfl, hze3⟩ := bZ_in e3
  obtain rfl := inj1 h
  exact hret _ _ ⟨dX1_isYard_7, hze3⟩
theorem mtX1_isYard (l : Launch) {a0 : Int32} {r : Int32} (h : m_isYard a0 = some r) : MetS l yX1_isYard cX1_isYard 1 (some .boolean) 1 22 [.int a0] (some (.int r)) := MetS.ofAt ((fun _ => 0), (fun _ => 0), (fun _ _ => 0), (fun _ _ => 0), fun _ => none) (by decide) (Nat.le_of_ble_eq_true rfl) (fun G _ Γ hR hp hret => wkX1_isYard (X := (0, (fun _ => 0), (fun _ => 0), (fun _ _ => 0), (fun _ => 0), (fun _ => True))) Γ hp hR h hret)
theorem kX1_X1isYard {G : Gx} {cc : ByteArray} {nL pc F LO : Nat} {σ : St} {lv : List (Nat × Value)} {st : List Value} (Γ : Ok G RX1 cc nL) (hkp : ∀ (H H1 : Heap), gP G σ H → (∀ q : Nat, q < H.size → H1[q]? = H[q]?) → gP G σ H1) {a0 : Int32} {r : Int32} (hRm : Rm G F LO) (hf : 1 + 1 ≤ F) (hlo : 8 + (1 + 11) + 22 ≤ LO) (h : m_isYard a0 = some r) (hW : (st.map fun v => v.category).sum ≤ 8) (d : decode cc pc = .ok (.invokestatic 210, 3)) (kk : At G nL σ lv (.int r :: st) (pc + 3)) : At G nL σ lv (.int a0 :: st) pc := A_callS Γ hkp rfl (mtX1_isYard (gl G) h) (lw_S q1343 q1344 q64 q1345) (n := 1) (by decide +kernel) (rm_ok hRm hf hlo) (rm_k hRm) rfl rfl hW d kk
set_option maxHeartbeats 4000000 in
set_option maxRecDepth 100000 in
theorem wkX1_setWay {G : Gx} {X : Xw} {σ σ' : St} (Γ : Ok G RX1 cX1_setWay 8) (Ξ : OkX 1 G X) (hRm : Rm G 0 0) {a1 : Int32} {a2 : Int32} {a3 : Int32} {a4 : Int32} {a5 : Int32} {a6 : Int32}  (h : m_setWay σ a1 a2 a3 a4 a5 a6 = some σ') (hret : ∀ (pc : Nat) (lv : List (Nat × Value)), retIs cX1_setWay none (none) pc → At G 8 σ' lv [] pc) : At G 8 σ [(0, .ref (xo X)), (1, .int a1), (2, .int a2), (3, .int a3), (4, .int a4), (5, .int a5), (6, .int a6)] [] 0 := by
  rw [m_setWay] at h
  refine A_bipush (v := 8) Γ dX1_setWay_0 (by decide) ?_
  refine A_iload_n Γ dX1_setWay_2 1 rfl ?_
  refine A_imul Γ dX1_setWay_3 ?_
  refine A_iload_n Γ dX1_setWay_4 2 rfl ?_
  refine A_iadd Γ dX1_setWay_5 ?_
  refine A_istore (lv' := [(7, .int ((8 * a1) + a2)), (0, .ref (xo X)), (1, .int a1), (2, .int a2), (3, .int a3), (4, .int a4), (5, .int a5), (6, .int a6)]) Γ dX1_setWay_6 (by decide) rfl ?_
  refine A_aload_n Γ dX1_setWay_8 1 rfl ?_
  refine g1_11 Γ Ξ dX1_setWay_9 ?_
  refine A_iload Γ dX1_setWay_12 0 rfl ?_
  refine A_iload_n Γ dX1_setWay_14 4 rfl ?_
  replace h := b1 h
  obtain ⟨σ1, e2, h⟩ := h
  refine w1_11 Γ Ξ e2 dX1_setWay_15 ?_
  refine A_aload_n Γ dX1_setWay_16 1 rfl ?_
  refine g1_12 Γ Ξ dX1_setWay_17 ?_
  refine A_iload Γ dX1_setWay_20 0 rfl ?_
  refine A_iload Γ dX1_setWay_22 5 rfl ?_
  replace h := b1 h
  obtain ⟨σ3, e4, h⟩ := h
  refine w1_12 Γ Ξ e4 dX1_setWay_24 ?_
  refine A_aload_n Γ dX1_setWay_25 1 rfl ?_
  refine g1_13 Γ Ξ dX1_setWay_26 ?_
  refine A_iload Γ dX1_setWay_29 0 rfl ?_
  refine A_iload Γ dX1_setWay_31 6 rfl ?_
  replace h := b1 h
  obtain ⟨σ5, e6, h⟩ := h
  refine w1_13 Γ Ξ e6 dX1_setWay_33 ?_
  refine A_aload_n Γ dX1_setWay_34 1 rfl ?_
  refine g1_14 Γ Ξ dX1_setWay_35 ?_
  refine A_iload Γ dX1_setWay_38 0 rfl ?_
  refine A_iload Γ dX1_setWay_40 7 rfl ?_
  replace h := b1 h
  obtain ⟨σ7, e8, h⟩ := h
  refine w1_14 Γ Ξ e8 dX1_setWay_42 ?_
  obtain rfl := inj1 h
  exact hret _ _ dX1_setWay_43
theorem mtX1_setWay (l : Launch) (X : Xw) {σ σ' : St} {a1 : Int32} {a2 : Int32} {a3 : Int32} {a4 : Int32} {a5 : Int32} {a6 : Int32}  (h : m_setWay σ a1 a2 a3 a4 a5 a6 = some σ') : MetZ 1 l X yX1_setWay cX1_setWay 8 none 0 0 [.ref (xo X), .int a1, .int a2, .int a3, .int a4, .int a5, .int a6] σ (none) σ' := MetZ.ofAt (by decide) (Nat.le_of_ble_eq_true rfl) (fun G _ Γ Ξ hR hret => wkX1_setWay Γ Ξ hR h hret)
theorem kX1_X1setWay {G : Gx} {X : Xw} {cc : ByteArray} {nL pc F LO : Nat} {σ σ' : St} {lv : List (Nat × Value)} {st : List Value} (Γ : Ok G RX1 cc nL) (Ξ : OkX 1 G X) {a1 : Int32} {a2 : Int32} {a3 : Int32} {a4 : Int32} {a5 : Int32} {a6 : Int32}  (hRm : Rm G F LO) (hf : 0 + 1 ≤ F) (hlo : 8 + (8 + 11) + 0 ≤ LO) (h : m_setWay σ a1 a2 a3 a4 a5 a6 = some σ') (hW : (st.map fun v => v.category).sum ≤ 8) (d : decode cc pc = .ok (.invokevirtual 213, 3)) (kk : At G nL σ' lv (st) (pc + 3)) : At G nL σ lv (.int a6 :: .int a5 :: .int a4 :: .int a3 :: .int a2 :: .int a1 :: .ref (xo X) :: st) pc := A_callV Γ Ξ rfl rfl (mtX1_setWay (gl G) X h) (lw_V q1346 q1348 qs34 q64 q1349) (n := 6) (by decide +kernel) (rm_ok hRm hf hlo) (rm_k hRm) rfl rfl hW d kk
set_option maxHeartbeats 4000000 in
set_option maxRecDepth 100000 in
theorem wkX1_way {G : Gx} {X : Xw} {σ σ' : St} (Γ : Ok G RX1 cX1_way 5) (Ξ : OkX 1 G X) (hRm : Rm G 2 42) {a1 : Int32} {a2 : Int32} {a3 : Int32} {a4 : Int32} {r : Int32} (h : m_way σ a1 a2 a3 a4 = some (r, σ')) (hret : ∀ (pc : Nat) (lv : List (Nat × Value)), retIs cX1_way (some .int) (some (.int r)) pc → At G 5 σ' lv [.int r] pc) : At G 5 σ [(0, .ref (xo X)), (1, .int a1), (2, .int a2), (3, .int a3), (4, .int a4)] [] 0 := by
  rw [m_way] at h
  refine A_iload_n Γ dX1_way_0 1 rfl ?_
  replace h := b1 h
  obtain ⟨v2, e1, h⟩ := h
  refine kX1_X1isYard Γ (kpX Ξ) hRm (by decide) (by decide) e1 (Nat.le_of_ble_eq_true rfl) dX1_way_1 ?_
  refine A_if_eq (t := 42) Γ dX1_way_4 (by decide) (fun c => ?_) (fun c => ?_)
  · replace h := it_t c h
    refine A_iconst (v := (-1)) Γ dX1_way_42 (by decide) ?_
    obtain ⟨rfl, rfl⟩ := inj2 h
    exact hret _ _ dX1_way_43
  · replace h := it_f c h
    refine A_iload_n Γ dX1_way_7 2 rfl ?_
    replace h := b1 h
    obtain ⟨v4, e3, h⟩ := h
    refine kX1_X1isYard Γ (kpX Ξ) hRm (by decide) (by decide) e3 (Nat.le_of_ble_eq_true rfl) dX1_way_8 ?_
    refine A_if_eq (t := 42) Γ dX1_way_11 (by decide) (fun c => ?_) (fun c => ?_)
    · replace h := it_t c h
      refine A_iconst (v := (-1)) Γ dX1_way_42 (by decide) ?_
      obtain ⟨rfl, rfl⟩ := inj2 h
      exact hret _ _ dX1_way_43
    · replace h := it_f c h
      refine A_iload_n Γ dX1_way_14 1 rfl ?_
      refine A_iload_n Γ dX1_way_15 2 rfl ?_
      refine A_icmp_eq (t := 42) Γ dX1_way_16 (by decide) (fun c => ?_) (fun c => ?_)
      · replace h := it_t c h
        refine A_iconst (v := (-1)) Γ dX1_way_42 (by decide) ?_
        obtain ⟨rfl, rfl⟩ := inj2 h
        exact hret _ _ dX1_way_43
      · replace h := it_f c h
        refine A_iload_n Γ dX1_way_19 3 rfl ?_
        refine A_iconst (v := 1) Γ dX1_way_20 (by decide) ?_
        refine A_sipush (v := 600) Γ dX1_way_21 (by decide) ?_
        replace h := b1 h
        obtain ⟨v6, e5, h⟩ := h
        refine kX1_X1in Γ (kpX Ξ) hRm (by decide) (by decide) e5 (Nat.le_of_ble_eq_true rfl) dX1_way_24 ?_
        refine A_if_eq (t := 42) Γ dX1_way_27 (by decide) (fun c => ?_) (fun c => ?_)
        · replace h := it_t c h
          refine A_iconst (v := (-1)) Γ dX1_way_42 (by decide) ?_
          obtain ⟨rfl, rfl⟩ := inj2 h
          exact hret _ _ dX1_way_43
        · replace h := it_f c h
          refine A_iload Γ dX1_way_30 4 rfl ?_
          refine A_iconst (v := 0) Γ dX1_way_32 (by decide) ?_
          refine A_sipush (v := 999) Γ dX1_way_33 (by decide) ?_
          replace h := b1 h
          obtain ⟨v8, e7, h⟩ := h
          refine kX1_X1in Γ (kpX Ξ) hRm (by decide) (by decide) e7 (Nat.le_of_ble_eq_true rfl) dX1_way_36 ?_
          refine A_if_ne (t := 44) Γ dX1_way_39 (by decide) (fun c => ?_) (fun c => ?_)
          · replace h := it_f c h
            refine A_aload_n Γ dX1_way_44 0 rfl ?_
            refine A_iload_n Γ dX1_way_45 1 rfl ?_
            refine A_iload_n Γ dX1_way_46 2 rfl ?_
            refine A_iload_n Γ dX1_way_47 3 rfl ?_
            refine A_iload Γ dX1_way_48 4 rfl ?_
            refine A_iconst (v := 0) Γ dX1_way_50 (by decide) ?_
            refine A_iconst (v := 0) Γ dX1_way_51 (by decide) ?_
            replace h := b1 h
            obtain ⟨σ10, e9, h⟩ := h
            refine kX1_X1setWay Γ Ξ hRm (by decide) (by decide) e9 (Nat.le_of_ble_eq_true rfl) dX1_way_52 ?_
            refine A_aload_n Γ dX1_way_55 0 rfl ?_
            refine A_iload_n Γ dX1_way_56 2 rfl ?_
            refine A_iload_n Γ dX1_way_57 1 rfl ?_
            refine A_iload_n Γ dX1_way_58 3 rfl ?_
            refine A_iload Γ dX1_way_59 4 rfl ?_
            refine A_iconst (v := 0) Γ dX1_way_61 (by decide) ?_
            refine A_iconst (v := 0) Γ dX1_way_62 (by decide) ?_
            replace h := b1 h
            obtain ⟨σ12, e11, h⟩ := h
            refine kX1_X1setWay Γ Ξ hRm (by decide) (by decide) e11 (Nat.le_of_ble_eq_true rfl) dX1_way_63 ?_
            refine A_iconst (v := 1) Γ dX1_way_66 (by decide) ?_
            obtain ⟨rfl, rfl⟩ := inj2 h
            exact hret _ _ dX1_way_67
          · replace h := it_t c h
            refine A_iconst (v := (-1)) Γ dX1_way_42 (by decide) ?_
            obtain ⟨rfl, rfl⟩ := inj2 h
            exact hret _ _ dX1_way_43
theorem mtX1_way (l : Launch) (X : Xw) {σ σ' : St} {a1 : Int32} {a2 : Int32} {a3 : Int32} {a4 : Int32} {r : Int32} (h : m_way σ a1 a2 a3 a4 = some (r, σ')) : MetZ 1 l X yX1_way cX1_way 5 (some .int) 2 42 [.ref (xo X), .int a1, .int a2, .int a3, .int a4] σ (some (.int r)) σ' := MetZ.ofAt (by decide) (Nat.le_of_ble_eq_true rfl) (fun G _ Γ Ξ hR hret => wkX1_way Γ Ξ hR h hret)

set_option maxHeartbeats 4000000 in
set_option maxRecDepth 100000 in
theorem wkX1_ferry {G : Gx} {X : Xw} {σ σ' : St} (Γ : Ok G RX1 cX1_ferry 6) (Ξ : OkX 1 G X) (hRm : Rm G 2 42) {a1 : Int32} {a2 : Int32} {a3 : Int32} {a4 : Int32} {r : Int32} (h : m_ferry σ a1 a2 a3 a4 = some (r, σ')) (hret : ∀ (pc : Nat) (lv : List (Nat × Value)), retIs cX1_ferry (some .int) (some (.int r)) pc → At G 6 σ' lv [.int r] pc) : At G 6 σ [(0, .ref (xo X)), (1, .int a1), (2, .int a2), (3, .int a3), (4, .int a4)] [] 0 := by
  rw [m_ferry] at h
  refine A_iload_n Γ dX1_ferry_0 1 rfl ?_
  replace h := b1 h
  obtain ⟨v2, e1, h⟩ := h
  refine kX1_X1isYard Γ (kpX Ξ) hRm (by decide) (by decide) e1 (Nat.le_of_ble_eq_true rfl) dX1_ferry_1 ?_
  refine A_if_eq (t := 37) Γ dX1_ferry_4 (by decide) (fun c => ?_) (fun c => ?_)
  · replace h := it_t c h
    refine A_iconst (v := (-1)) Γ dX1_ferry_37 (by decide) ?_
    obtain ⟨rfl, rfl⟩ := inj2 h
    exact hret _ _ dX1_ferry_38
  · replace h := it_f c h
    refine A_iload_n Γ dX1_ferry_7 2 rfl ?_
    replace h := b1 h
    obtain ⟨v4, e3, h⟩ := h
    refine kX1_X1isYard Γ (kpX Ξ) hRm (by decide) (by decide) e3 (Nat.le_of_ble_eq_true rfl) dX1_ferry_8 ?_
    refine A_if_eq (t := 37) Γ dX1_ferry_11 (by decide) (fun c => ?_) (fun c => ?_)
    · replace h := it_t c h
      refine A_iconst (v := (-1)) Γ dX1_ferry_37 (by decide) ?_
      obtain ⟨rfl, rfl⟩ := inj2 h
      exact hret _ _ dX1_ferry_38
    · replace h := it_f c h
      refine A_iload_n Γ dX1_ferry_14 3 rfl ?_
      refine A_iconst (v := 1) Γ dX1_ferry_15 (by decide) ?_
      refine A_sipush (v := 1440) Γ dX1_ferry_16 (by decide) ?_
      replace h := b1 h
      obtain ⟨v6, e5, h⟩ := h
      refine kX1_X1in Γ (kpX Ξ) hRm (by decide) (by decide) e5 (Nat.le_of_ble_eq_true rfl) dX1_ferry_19 ?_
      refine A_if_eq (t := 37) Γ dX1_ferry_22 (by decide) (fun c => ?_) (fun c => ?_)
      · replace h := it_t c h
        refine A_iconst (v := (-1)) Γ dX1_ferry_37 (by decide) ?_
        obtain ⟨rfl, rfl⟩ := inj2 h
        exact hret _ _ dX1_ferry_38
      · replace h := it_f c h
        refine A_iload Γ dX1_ferry_25 4 rfl ?_
        refine A_iconst (v := 0) Γ dX1_ferry_27 (by decide) ?_
        refine A_iload_n Γ dX1_ferry_28 3 rfl ?_
        refine A_iconst (v := 1) Γ dX1_ferry_29 (by decide) ?_
        refine A_isub Γ dX1_ferry_30 ?_
        replace h := b1 h
        obtain ⟨v8, e7, h⟩ := h
        refine kX1_X1in Γ (kpX Ξ) hRm (by decide) (by decide) e7 (Nat.le_of_ble_eq_true rfl) dX1_ferry_31 ?_
        refine A_if_ne (t := 39) Γ dX1_ferry_34 (by decide) (fun c => ?_) (fun c => ?_)
        · replace h := it_f c h
          refine A_bipush (v := 8) Γ dX1_ferry_39 (by decide) ?_
          refine A_iload_n Γ dX1_ferry_41 1 rfl ?_
          refine A_imul Γ dX1_ferry_42 ?_
          refine A_iload_n Γ dX1_ferry_43 2 rfl ?_
          refine A_iadd Γ dX1_ferry_44 ?_
          refine A_istore (lv' := [(5, .int ((8 * a1) + a2)), (0, .ref (xo X)), (1, .int a1), (2, .int a2), (3, .int a3), (4, .int a4)]) Γ dX1_ferry_45 (by decide) rfl ?_
          refine A_aload_n Γ dX1_ferry_47 1 rfl ?_
          refine g1_11 Γ Ξ dX1_ferry_48 ?_
          refine A_iload Γ dX1_ferry_51 0 rfl ?_
          replace h := b1 h
          obtain ⟨v9, e10, h⟩ := h
          refine r1_11 Γ Ξ e10 dX1_ferry_53 ?_
          refine A_if_ne (t := 63) Γ dX1_ferry_54 (by decide) (fun c => ?_) (fun c => ?_)
          · replace h := it_f c h
            refine A_aload_n Γ dX1_ferry_63 1 rfl ?_
            refine A_iload_n Γ dX1_ferry_64 2 rfl ?_
            refine A_iload_n Γ dX1_ferry_65 3 rfl ?_
            refine A_aload_n Γ dX1_ferry_66 1 rfl ?_
            refine g1_11 Γ Ξ dX1_ferry_67 ?_
            refine A_iload Γ dX1_ferry_70 0 rfl ?_
            replace h := b1 h
            obtain ⟨v11, e12, h⟩ := h
            refine r1_11 Γ Ξ e12 dX1_ferry_72 ?_
            refine A_aload_n Γ dX1_ferry_73 1 rfl ?_
            refine g1_12 Γ Ξ dX1_ferry_74 ?_
            refine A_iload Γ dX1_ferry_77 0 rfl ?_
            replace h := b1 h
            obtain ⟨v13, e14, h⟩ := h
            refine r1_12 Γ Ξ e14 dX1_ferry_79 ?_
            refine A_iload_n Γ dX1_ferry_80 4 rfl ?_
            refine A_iload Γ dX1_ferry_81 5 rfl ?_
            replace h := b1 h
            obtain ⟨σ16, e15, h⟩ := h
            refine kX1_X1setWay Γ Ξ hRm (by decide) (by decide) e15 (Nat.le_of_ble_eq_true rfl) dX1_ferry_83 ?_
            refine A_aload_n Γ dX1_ferry_86 1 rfl ?_
            refine A_iload_n Γ dX1_ferry_87 3 rfl ?_
            refine A_iload_n Γ dX1_ferry_88 2 rfl ?_
            refine A_aload_n Γ dX1_ferry_89 1 rfl ?_
            refine g1_11 Γ Ξ dX1_ferry_90 ?_
            refine A_iload Γ dX1_ferry_93 0 rfl ?_
            replace h := b1 h
            obtain ⟨v17, e18, h⟩ := h
            refine r1_11 Γ Ξ e18 dX1_ferry_95 ?_
            refine A_aload_n Γ dX1_ferry_96 1 rfl ?_
            refine g1_12 Γ Ξ dX1_ferry_97 ?_
            refine A_iload Γ dX1_ferry_100 0 rfl ?_
            replace h := b1 h
            obtain ⟨v19, e20, h⟩ := h
            refine r1_12 Γ Ξ e20 dX1_ferry_102 ?_
            refine A_iload_n Γ dX1_ferry_103 4 rfl ?_
            refine A_iload Γ dX1_ferry_104 5 rfl ?_
            replace h := b1 h
            obtain ⟨σ22, e21, h⟩ := h
            refine kX1_X1setWay Γ Ξ hRm (by decide) (by decide) e21 (Nat.le_of_ble_eq_true rfl) dX1_ferry_106 ?_
            refine A_iconst (v := 1) Γ dX1_ferry_109 (by decide) ?_
            obtain ⟨rfl, rfl⟩ := inj2 h
            exact hret _ _ dX1_ferry_110
          · replace h := it_t c h
            refine A_aload_n Γ dX1_ferry_57 1 rfl ?_
            refine A_iconst (v := 1) Γ dX1_ferry_58 (by decide) ?_
            replace h := b2 h
            obtain ⟨v24, σ25, e23, h⟩ := h
            refine kX1_X1meets Γ Ξ hRm (by decide) (by decide) e23 (Nat.le_of_ble_eq_true rfl) dX1_ferry_59 ?_
            obtain ⟨rfl, rfl⟩ := inj2 h
            exact hret _ _ dX1_ferry_62
        · replace h := it_t c h
          refine A_iconst (v := (-1)) Γ dX1_ferry_37 (by decide) ?_
          obtain ⟨rfl, rfl⟩ := inj2 h
          exact hret _ _ dX1_ferry_38
theorem mtX1_ferry (l : Launch) (X : Xw) {σ σ' : St} {a1 : Int32} {a2 : Int32} {a3 : Int32} {a4 : Int32} {r : Int32} (h : m_ferry σ a1 a2 a3 a4 = some (r, σ')) : MetZ 1 l X yX1_ferry cX1_ferry 6 (some .int) 2 42 [.ref (xo X), .int a1, .int a2, .int a3, .int a4] σ (some (.int r)) σ' := MetZ.ofAt (by decide) (Nat.le_of_ble_eq_true rfl) (fun G _ Γ Ξ hR hret => wkX1_ferry Γ Ξ hR h hret)

set_option maxHeartbeats 4000000 in
set_option maxRecDepth 100000 in
theorem wkX1_beyond {G : Gx} {X : Xw} {σ : St} (Γ : Ok G RX1 cX1_beyond 5) (Ξ : OkX 1 G X) (hRm : Rm G 0 0) {a1 : Int32} {a2 : Int32} {r : Int32} (h : m_beyond σ a1 a2 = some r) (hret : ∀ (pc : Nat) (lv : List (Nat × Value)), retIs cX1_beyond (some .int) (some (.int r)) pc → At G 5 σ lv [.int r] pc) : At G 5 σ [(0, .ref (xo X)), (1, .int a1), (2, .int a2)] [] 0 := by
  rw [m_beyond] at h
  refine A_iload_n Γ dX1_beyond_0 2 rfl ?_
  refine A_istore_n (lv' := [(3, .int a2), (0, .ref (xo X)), (1, .int a1), (2, .int a2)]) Γ dX1_beyond_1 (by decide) rfl ?_
  refine A_aload_n Γ dX1_beyond_2 1 rfl ?_
  refine g1_13 Γ Ξ dX1_beyond_3 ?_
  refine A_iload_n Γ dX1_beyond_6 2 rfl ?_
  replace h := b1 h
  obtain ⟨v1, e2, h⟩ := h
  refine r1_13 Γ Ξ e2 dX1_beyond_7 ?_
  replace h := b1 h
  obtain ⟨x4, eJ3, h⟩ := h
  have hJJ3 : At G 5 σ [(0, .ref (xo X)), (1, .int a1), (3, .int x4)] [] 73 := by
    refine A_iload_n Γ dX1_beyond_73 2 rfl ?_
    refine A_aload_n Γ dX1_beyond_74 0 rfl ?_
    refine g1_11 Γ Ξ dX1_beyond_75 ?_
    refine A_iload_n Γ dX1_beyond_78 1 rfl ?_
    replace h := b1 h
    obtain ⟨v23, e24, h⟩ := h
    refine r1_11 Γ Ξ e24 dX1_beyond_79 ?_
    refine A_iadd Γ dX1_beyond_80 ?_
    obtain rfl := inj1 h
    exact hret _ _ dX1_beyond_81
  refine A_if_le (t := 73) Γ dX1_beyond_8 (by decide) (fun c => ?_) (fun c => ?_)
  · replace eJ3 := it_t c eJ3
    obtain rfl := inj1 eJ3
    exact A_sub [1, 2, 0] rfl hJJ3
  · replace eJ3 := it_f c eJ3
    refine A_iload_n Γ dX1_beyond_11 3 rfl ?_
    refine A_aload_n Γ dX1_beyond_12 1 rfl ?_
    refine g1_14 Γ Ξ dX1_beyond_13 ?_
    refine A_iload_n Γ dX1_beyond_16 2 rfl ?_
    replace eJ3 := b1 eJ3
    obtain ⟨v5, e6, eJ3⟩ := eJ3
    refine r1_14 Γ Ξ e6 dX1_beyond_17 ?_
    refine A_isub Γ dX1_beyond_18 ?_
    refine A_aload_n Γ dX1_beyond_19 1 rfl ?_
    refine g1_13 Γ Ξ dX1_beyond_20 ?_
    refine A_iload_n Γ dX1_beyond_23 2 rfl ?_
    replace eJ3 := b1 eJ3
    obtain ⟨v7, e8, eJ3⟩ := eJ3
    refine r1_13 Γ Ξ e8 dX1_beyond_24 ?_
    refine A_iadd Γ dX1_beyond_25 ?_
    refine A_iconst (v := 1) Γ dX1_beyond_26 (by decide) ?_
    refine A_isub Γ dX1_beyond_27 ?_
    refine A_aload_n Γ dX1_beyond_28 1 rfl ?_
    refine g1_13 Γ Ξ dX1_beyond_29 ?_
    refine A_iload_n Γ dX1_beyond_32 2 rfl ?_
    replace eJ3 := b1 eJ3
    obtain ⟨v9, e10, eJ3⟩ := eJ3
    refine r1_13 Γ Ξ e10 dX1_beyond_33 ?_
    replace eJ3 := b1 eJ3
    obtain ⟨v12, e11, eJ3⟩ := eJ3
    obtain ⟨rfl, hze11⟩ := nz_in e11
    refine A_idiv Γ dX1_beyond_34 hze11 ?_
    refine A_istore (lv' := [(4, .int ((((a2 - v5) + v7) - 1) / v9)), (3, .int a2), (0, .ref (xo X)), (1, .int a1), (2, .int a2)]) Γ dX1_beyond_35 (by decide) rfl ?_
    refine A_iload_n Γ dX1_beyond_37 4 rfl ?_
    refine A_aload_n Γ dX1_beyond_38 2 rfl ?_
    refine g1_14 Γ Ξ dX1_beyond_39 ?_
    refine A_iload_n Γ dX1_beyond_42 3 rfl ?_
    replace eJ3 := b1 eJ3
    obtain ⟨v13, e14, eJ3⟩ := eJ3
    refine r1_14 Γ Ξ e14 dX1_beyond_43 ?_
    replace eJ3 := b1 eJ3
    obtain ⟨x16, eJ15, eJ3⟩ := eJ3
    have hJJ15 : At G 5 σ [(0, .ref (xo X)), (1, .int a1)] [.int x16] 72 := by
      refine A_istore_n (lv' := [(3, .int x16), (0, .ref (xo X)), (1, .int a1)]) Γ dX1_beyond_72 (by decide) rfl ?_
      obtain rfl := inj1 eJ3
      exact A_sub [1, 2, 0] rfl hJJ3
    refine A_icmp_gt (t := 56) Γ dX1_beyond_44 (by decide) (fun c => ?_) (fun c => ?_)
    · replace eJ15 := it_t c eJ15
      refine A_aload_n Γ dX1_beyond_56 2 rfl ?_
      refine g1_14 Γ Ξ dX1_beyond_57 ?_
      refine A_iload_n Γ dX1_beyond_60 3 rfl ?_
      replace eJ15 := b1 eJ15
      obtain ⟨v17, e18, eJ15⟩ := eJ15
      refine r1_14 Γ Ξ e18 dX1_beyond_61 ?_
      refine A_iload Γ dX1_beyond_62 0 rfl ?_
      refine A_aload_n Γ dX1_beyond_64 2 rfl ?_
      refine g1_13 Γ Ξ dX1_beyond_65 ?_
      refine A_iload_n Γ dX1_beyond_68 3 rfl ?_
      replace eJ15 := b1 eJ15
      obtain ⟨v19, e20, eJ15⟩ := eJ15
      refine r1_13 Γ Ξ e20 dX1_beyond_69 ?_
      refine A_imul Γ dX1_beyond_70 ?_
      refine A_iadd Γ dX1_beyond_71 ?_
      obtain rfl := inj1 eJ15
      exact A_sub [2, 3] rfl hJJ15
    · replace eJ15 := it_f c eJ15
      refine A_aload_n Γ dX1_beyond_47 2 rfl ?_
      refine g1_14 Γ Ξ dX1_beyond_48 ?_
      refine A_iload_n Γ dX1_beyond_51 3 rfl ?_
      replace eJ15 := b1 eJ15
      obtain ⟨v21, e22, eJ15⟩ := eJ15
      refine r1_14 Γ Ξ e22 dX1_beyond_52 ?_
      refine A_goto (t := 72) Γ dX1_beyond_53 (by decide) ?_
      obtain rfl := inj1 eJ15
      exact A_sub [2, 3] rfl hJJ15
theorem mtX1_beyond (l : Launch) (X : Xw) {σ : St} {a1 : Int32} {a2 : Int32} {r : Int32} (h : m_beyond σ a1 a2 = some r) : MetZ 1 l X yX1_beyond cX1_beyond 5 (some .int) 0 0 [.ref (xo X), .int a1, .int a2] σ (some (.int r)) σ := MetZ.ofAt (by decide) (Nat.le_of_ble_eq_true rfl) (fun G _ Γ Ξ hR hret => wkX1_beyond Γ Ξ hR h hret)
theorem kX1_X1beyond {G : Gx} {X : Xw} {cc : ByteArray} {nL pc F LO : Nat} {σ : St} {lv : List (Nat × Value)} {st : List Value} (Γ : Ok G RX1 cc nL) (Ξ : OkX 1 G X) {a1 : Int32} {a2 : Int32} {r : Int32} (hRm : Rm G F LO) (hf : 0 + 1 ≤ F) (hlo : 8 + (5 + 11) + 0 ≤ LO) (h : m_beyond σ a1 a2 = some r) (hW : (st.map fun v => v.category).sum ≤ 8) (d : decode cc pc = .ok (.invokevirtual 218, 3)) (kk : At G nL σ lv (.int r :: st) (pc + 3)) : At G nL σ lv (.int a2 :: .int a1 :: .ref (xo X) :: st) pc := A_callV Γ Ξ rfl rfl (mtX1_beyond (gl G) X h) (lw_V q1363 q1365 qs36 q64 q1366) (n := 2) (by decide +kernel) (rm_ok hRm hf hlo) (rm_k hRm) rfl rfl hW d kk
set_option maxHeartbeats 4000000 in
set_option maxRecDepth 100000 in
theorem wkX1_comesTo {G : Gx} {X : Xw} {σ σ' : St} (Γ : Ok G RX1 cX1_comesTo 8) (Ξ : OkX 1 G X) (hRm : Rm G 1 24) {a1 : Int32} {a2 : Int32} {a3 : Int32} {r : Int32} (h : m_comesTo σ a1 a2 a3 = some (r, σ')) (hret : ∀ (pc : Nat) (lv : List (Nat × Value)), retIs cX1_comesTo (some .int) (some (.int r)) pc → At G 8 σ' lv [.int r] pc) : At G 8 σ [(0, .ref (xo X)), (1, .int a1), (2, .int a2), (3, .int a3)] [] 0 := by
  rw [m_comesTo] at h
  refine A_iconst (v := 0) Γ dX1_comesTo_0 (by decide) ?_
  refine A_istore (lv' := [(4, .int 0), (0, .ref (xo X)), (1, .int a1), (2, .int a2), (3, .int a3)]) Γ dX1_comesTo_1 (by decide) rfl ?_
  replace h := b1 h
  obtain ⟨σ4, eLL1, h⟩ := h
  have hXL1 : At G 8 σ4 [(0, .ref (xo X)), (3, .int a3)] [] 35 := by
    refine A_iconst (v := 1) Γ dX1_comesTo_35 (by decide) ?_
    refine A_istore (lv' := [(4, .int 1), (0, .ref (xo X)), (3, .int a3)]) Γ dX1_comesTo_36 (by decide) rfl ?_
    replace h := b1 h
    obtain ⟨σ12, eLL9, h⟩ := h
    have hXL9 : At G 8 σ12 [(0, .ref (xo X)), (3, .int a3)] [] 159 := by
      refine A_aload_n Γ dX1_comesTo_159 0 rfl ?_
      refine g1_15 Γ Ξ dX1_comesTo_160 ?_
      refine A_iload_n Γ dX1_comesTo_163 1 rfl ?_
      replace h := b1 h
      obtain ⟨v44, e45, h⟩ := h
      refine r1_15 Γ Ξ e45 dX1_comesTo_164 ?_
      obtain ⟨rfl, rfl⟩ := inj2 h
      exact hret _ _ dX1_comesTo_165
    replace eLL9 := lq2_ex eLL9
    obtain ⟨nL9, eLL9⟩ := eLL9
    have hLL9 : ∀ (nL9 : Nat) (σ10 : St) (x11 : Int32), lpf2 (m_comesTo_L9) nL9 σ10 x11 = some σ12 → At G 8 σ10 [(0, .ref (xo X)), (3, .int a3), (4, .int x11)] [] 38 := by
      intro nL9
      induction nL9 with
      | zero => intro σ10 x11 eL9; exact (lpf2_0 eL9).elim
      | succ nL9 ihL9 =>
        intro σ10 x11 eL9
        replace eL9 := lpf2_s eL9
        obtain ⟨qL9, eL9, hqL9⟩ := eL9
        rw [m_comesTo_L9] at eL9
        refine A_iload Γ dX1_comesTo_38 2 rfl ?_
        refine A_if_eq (t := 159) Γ dX1_comesTo_40 (by decide) (fun c => ?_) (fun c => ?_)
        · replace eL9 := it_t c eL9
          obtain rfl := pr1 (lpx2 eL9 hqL9)
          exact A_sub [0, 1] rfl hXL9
        · replace eL9 := it_f c eL9
          refine A_iconst (v := 0) Γ dX1_comesTo_43 (by decide) ?_
          refine A_istore (lv' := [(4, .int 0), (0, .ref (xo X)), (3, .int a3)]) Γ dX1_comesTo_44 (by decide) rfl ?_
          refine A_iconst (v := 0) Γ dX1_comesTo_46 (by decide) ?_
          refine A_istore (lv' := [(5, .int 0), (4, .int 0), (0, .ref (xo X)), (3, .int a3)]) Γ dX1_comesTo_47 (by decide) rfl ?_
          replace eL9 := b2 eL9
          obtain ⟨σ17, x18, eLL13, eL9⟩ := eL9
          have hXL13 : At G 8 σ17 [(0, .ref (xo X)), (3, .int a3), (4, .int x18)] [] 156 := by
            refine A_goto (t := 38) Γ dX1_comesTo_156 (by decide) ?_
            exact A_sub [0, 1, 2] rfl (ihL9 _ _ (lpc2 eL9 hqL9))
          replace eLL13 := lq3_ex eLL13
          obtain ⟨nL13, eLL13⟩ := eLL13
          have hLL13 : ∀ (nL13 : Nat) (σ14 : St) (x15 : Int32) (x16 : Int32), lpf3 (m_comesTo_L13) nL13 σ14 x15 x16 = some (σ17, x18) → At G 8 σ14 [(0, .ref (xo X)), (3, .int a3), (4, .int x15), (5, .int x16)] [] 49 := by
            intro nL13
            induction nL13 with
            | zero => intro σ14 x15 x16 eL13; exact (lpf3_0 eL13).elim
            | succ nL13 ihL13 =>
              intro σ14 x15 x16 eL13
              replace eL13 := lpf3_s eL13
              obtain ⟨qL13, eL13, hqL13⟩ := eL13
              rw [m_comesTo_L13] at eL13
              refine A_iload Γ dX1_comesTo_49 3 rfl ?_
              refine A_bipush (v := 8) Γ dX1_comesTo_51 (by decide) ?_
              refine A_icmp_ge (t := 156) Γ dX1_comesTo_53 (by decide) (fun c => ?_) (fun c => ?_)
              · replace eL13 := it_t c eL13
                obtain ⟨rfl, rfl⟩ := pr2 (lpx3 eL13 hqL13)
                exact A_sub [0, 1, 2] rfl hXL13
              · replace eL13 := it_f c eL13
                refine A_iconst (v := 0) Γ dX1_comesTo_56 (by decide) ?_
                refine A_istore (lv' := [(6, .int 0), (0, .ref (xo X)), (3, .int a3), (4, .int x15), (5, .int x16)]) Γ dX1_comesTo_57 (by decide) rfl ?_
                replace eL13 := b2 eL13
                obtain ⟨σ23, x24, eLL19, eL13⟩ := eL13
                have hXL19 : At G 8 σ23 [(0, .ref (xo X)), (3, .int a3), (4, .int x24), (5, .int x16)] [] 150 := by
                  refine A_iinc (v := x16 + 1) (lv' := [(5, .int (x16 + 1)), (0, .ref (xo X)), (3, .int a3), (4, .int x24)]) Γ dX1_comesTo_150 3 rfl rfl (by decide) rfl ?_
                  refine A_goto (t := 49) Γ dX1_comesTo_153 (by decide) ?_
                  exact A_sub [1, 2, 3, 0] rfl (ihL13 _ _ _ (lpc3 eL13 hqL13))
                replace eLL19 := lq3_ex eLL19
                obtain ⟨nL19, eLL19⟩ := eLL19
                have hLL19 : ∀ (nL19 : Nat) (σ20 : St) (x21 : Int32) (x22 : Int32), lpf3 (m_comesTo_L19 x16) nL19 σ20 x21 x22 = some (σ23, x24) → At G 8 σ20 [(0, .ref (xo X)), (3, .int a3), (4, .int x21), (5, .int x16), (6, .int x22)] [] 59 := by
                  intro nL19
                  induction nL19 with
                  | zero => intro σ20 x21 x22 eL19; exact (lpf3_0 eL19).elim
                  | succ nL19 ihL19 =>
                    intro σ20 x21 x22 eL19
                    replace eL19 := lpf3_s eL19
                    obtain ⟨qL19, eL19, hqL19⟩ := eL19
                    rw [m_comesTo_L19] at eL19
                    refine A_iload Γ dX1_comesTo_59 4 rfl ?_
                    refine A_bipush (v := 8) Γ dX1_comesTo_61 (by decide) ?_
                    refine A_icmp_ge (t := 150) Γ dX1_comesTo_63 (by decide) (fun c => ?_) (fun c => ?_)
                    · replace eL19 := it_t c eL19
                      obtain ⟨rfl, rfl⟩ := pr2 (lpx3 eL19 hqL19)
                      exact A_sub [0, 1, 2, 3] rfl hXL19
                    · replace eL19 := it_f c eL19
                      refine A_bipush (v := 8) Γ dX1_comesTo_66 (by decide) ?_
                      refine A_iload Γ dX1_comesTo_68 3 rfl ?_
                      refine A_imul Γ dX1_comesTo_70 ?_
                      refine A_iload Γ dX1_comesTo_71 4 rfl ?_
                      refine A_iadd Γ dX1_comesTo_73 ?_
                      refine A_istore (lv' := [(7, .int ((8 * x16) + x22)), (0, .ref (xo X)), (3, .int a3), (4, .int x21), (5, .int x16), (6, .int x22)]) Γ dX1_comesTo_74 (by decide) rfl ?_
                      refine A_aload_n Γ dX1_comesTo_76 1 rfl ?_
                      refine g1_11 Γ Ξ dX1_comesTo_77 ?_
                      refine A_iload Γ dX1_comesTo_80 0 rfl ?_
                      replace eL19 := b1 eL19
                      obtain ⟨v25, e26, eL19⟩ := eL19
                      refine r1_11 Γ Ξ e26 dX1_comesTo_82 ?_
                      replace eL19 := b2 eL19
                      obtain ⟨σ28, x29, eJ27, eL19⟩ := eL19
                      have hJJ27 : At G 8 σ28 [(0, .ref (xo X)), (3, .int a3), (4, .int x29), (5, .int x16), (6, .int x22)] [] 144 := by
                        refine A_iinc (v := x22 + 1) (lv' := [(6, .int (x22 + 1)), (0, .ref (xo X)), (3, .int a3), (4, .int x29), (5, .int x16)]) Γ dX1_comesTo_144 4 rfl rfl (by decide) rfl ?_
                        refine A_goto (t := 59) Γ dX1_comesTo_147 (by decide) ?_
                        exact A_sub [1, 2, 3, 4, 0] rfl (ihL19 _ _ _ (lpc3 eL19 hqL19))
                      refine A_if_le (t := 144) Γ dX1_comesTo_83 (by decide) (fun c => ?_) (fun c => ?_)
                      · replace eJ27 := it_t c eJ27
                        obtain ⟨rfl, rfl⟩ := inj2 eJ27
                        exact A_sub [1, 2, 3, 4, 5] rfl hJJ27
                      · replace eJ27 := it_f c eJ27
                        refine A_aload_n Γ dX1_comesTo_86 1 rfl ?_
                        refine g1_15 Γ Ξ dX1_comesTo_87 ?_
                        refine A_iload Γ dX1_comesTo_90 4 rfl ?_
                        replace eJ27 := b1 eJ27
                        obtain ⟨v30, e31, eJ27⟩ := eJ27
                        refine r1_15 Γ Ξ e31 dX1_comesTo_92 ?_
                        refine A_ldc (v := 100000000) Γ q1362 dX1_comesTo_93 ?_
                        refine A_icmp_ge (t := 144) Γ dX1_comesTo_95 (by decide) (fun c => ?_) (fun c => ?_)
                        · replace eJ27 := it_t c eJ27
                          obtain ⟨rfl, rfl⟩ := inj2 eJ27
                          exact A_sub [1, 2, 3, 4, 5] rfl hJJ27
                        · replace eJ27 := it_f c eJ27
                          refine A_aload_n Γ dX1_comesTo_98 1 rfl ?_
                          refine A_iload Γ dX1_comesTo_99 0 rfl ?_
                          refine A_aload_n Γ dX1_comesTo_101 1 rfl ?_
                          refine g1_15 Γ Ξ dX1_comesTo_102 ?_
                          refine A_iload Γ dX1_comesTo_105 4 rfl ?_
                          replace eJ27 := b1 eJ27
                          obtain ⟨v32, e33, eJ27⟩ := eJ27
                          refine r1_15 Γ Ξ e33 dX1_comesTo_107 ?_
                          replace eJ27 := b1 eJ27
                          obtain ⟨v35, e34, eJ27⟩ := eJ27
                          refine kX1_X1beyond Γ Ξ hRm (by decide) (by decide) e34 (Nat.le_of_ble_eq_true rfl) dX1_comesTo_108 ?_
                          refine A_aload_n Γ dX1_comesTo_111 1 rfl ?_
                          refine g1_15 Γ Ξ dX1_comesTo_112 ?_
                          refine A_iload Γ dX1_comesTo_115 5 rfl ?_
                          replace eJ27 := b1 eJ27
                          obtain ⟨v36, e37, eJ27⟩ := eJ27
                          refine r1_15 Γ Ξ e37 dX1_comesTo_117 ?_
                          refine A_icmp_ge (t := 144) Γ dX1_comesTo_118 (by decide) (fun c => ?_) (fun c => ?_)
                          · replace eJ27 := it_t c eJ27
                            obtain ⟨rfl, rfl⟩ := inj2 eJ27
                            exact A_sub [1, 2, 3, 4, 5] rfl hJJ27
                          · replace eJ27 := it_f c eJ27
                            refine A_aload_n Γ dX1_comesTo_121 1 rfl ?_
                            refine g1_15 Γ Ξ dX1_comesTo_122 ?_
                            refine A_iload Γ dX1_comesTo_125 5 rfl ?_
                            refine A_aload_n Γ dX1_comesTo_127 1 rfl ?_
                            refine A_iload Γ dX1_comesTo_128 0 rfl ?_
                            refine A_aload_n Γ dX1_comesTo_130 1 rfl ?_
                            refine g1_15 Γ Ξ dX1_comesTo_131 ?_
                            refine A_iload Γ dX1_comesTo_134 4 rfl ?_
                            replace eJ27 := b1 eJ27
                            obtain ⟨v38, e39, eJ27⟩ := eJ27
                            refine r1_15 Γ Ξ e39 dX1_comesTo_136 ?_
                            replace eJ27 := b1 eJ27
                            obtain ⟨v41, e40, eJ27⟩ := eJ27
                            refine kX1_X1beyond Γ Ξ hRm (by decide) (by decide) e40 (Nat.le_of_ble_eq_true rfl) dX1_comesTo_137 ?_
                            replace eJ27 := b1 eJ27
                            obtain ⟨σ42, e43, eJ27⟩ := eJ27
                            refine w1_15 Γ Ξ e43 dX1_comesTo_140 ?_
                            refine A_iconst (v := 1) Γ dX1_comesTo_141 (by decide) ?_
                            refine A_istore (lv' := [(4, .int 1), (7, .int ((8 * x16) + x22)), (0, .ref (xo X)), (3, .int a3), (5, .int x16), (6, .int x22)]) Γ dX1_comesTo_142 (by decide) rfl ?_
                            obtain ⟨rfl, rfl⟩ := inj2 eJ27
                            exact A_sub [2, 3, 0, 4, 5] rfl hJJ27
                exact A_sub [1, 2, 3, 4, 0] rfl (hLL19 _ _ _ _ eLL19)
          exact A_sub [2, 3, 1, 0] rfl (hLL13 _ _ _ _ eLL13)
    exact A_sub [1, 2, 0] rfl (hLL9 _ _ _ eLL9)
  replace eLL1 := lq2_ex eLL1
  obtain ⟨nL1, eLL1⟩ := eLL1
  have hLL1 : ∀ (nL1 : Nat) (σ2 : St) (x3 : Int32), lpf2 (m_comesTo_L1 a1 a2) nL1 σ2 x3 = some σ4 → At G 8 σ2 [(0, .ref (xo X)), (1, .int a1), (2, .int a2), (3, .int a3), (4, .int x3)] [] 3 := by
    intro nL1
    induction nL1 with
    | zero => intro σ2 x3 eL1; exact (lpf2_0 eL1).elim
    | succ nL1 ihL1 =>
      intro σ2 x3 eL1
      replace eL1 := lpf2_s eL1
      obtain ⟨qL1, eL1, hqL1⟩ := eL1
      rw [m_comesTo_L1] at eL1
      refine A_iload Γ dX1_comesTo_3 4 rfl ?_
      refine A_bipush (v := 8) Γ dX1_comesTo_5 (by decide) ?_
      refine A_icmp_ge (t := 35) Γ dX1_comesTo_7 (by decide) (fun c => ?_) (fun c => ?_)
      · replace eL1 := it_t c eL1
        obtain rfl := pr1 (lpx2 eL1 hqL1)
        exact A_sub [0, 3] rfl hXL1
      · replace eL1 := it_f c eL1
        refine A_aload_n Γ dX1_comesTo_10 0 rfl ?_
        refine g1_15 Γ Ξ dX1_comesTo_11 ?_
        refine A_iload Γ dX1_comesTo_14 4 rfl ?_
        refine A_iload Γ dX1_comesTo_16 4 rfl ?_
        refine A_iload_n Γ dX1_comesTo_18 1 rfl ?_
        replace eL1 := b1 eL1
        obtain ⟨x6, eJ5, eL1⟩ := eL1
        have hJJ5 : At G 8 σ2 [(0, .ref (xo X)), (1, .int a1), (2, .int a2), (3, .int a3), (4, .int x3)] [.int x6, .int x3, .ref (xad X 15)] 28 := by
          replace eL1 := b1 eL1
          obtain ⟨σ7, e8, eL1⟩ := eL1
          refine w1_15 Γ Ξ e8 dX1_comesTo_28 ?_
          refine A_iinc (v := x3 + 1) (lv' := [(4, .int (x3 + 1)), (0, .ref (xo X)), (1, .int a1), (2, .int a2), (3, .int a3)]) Γ dX1_comesTo_29 4 rfl rfl (by decide) rfl ?_
          refine A_goto (t := 3) Γ dX1_comesTo_32 (by decide) ?_
          exact A_sub [1, 2, 3, 4, 0] rfl (ihL1 _ _ (lpc2 eL1 hqL1))
        refine A_icmp_ne (t := 26) Γ dX1_comesTo_19 (by decide) (fun c => ?_) (fun c => ?_)
        · replace eJ5 := it_f c eJ5
          refine A_ldc (v := 100000000) Γ q1362 dX1_comesTo_26 ?_
          obtain rfl := inj1 eJ5
          exact A_sub [0, 1, 2, 3, 4] rfl hJJ5
        · replace eJ5 := it_t c eJ5
          refine A_iload_n Γ dX1_comesTo_22 2 rfl ?_
          refine A_goto (t := 28) Γ dX1_comesTo_23 (by decide) ?_
          obtain rfl := inj1 eJ5
          exact A_sub [0, 1, 2, 3, 4] rfl hJJ5
  exact A_sub [1, 2, 3, 4, 0] rfl (hLL1 _ _ _ eLL1)
theorem mtX1_comesTo (l : Launch) (X : Xw) {σ σ' : St} {a1 : Int32} {a2 : Int32} {a3 : Int32} {r : Int32} (h : m_comesTo σ a1 a2 a3 = some (r, σ')) : MetZ 1 l X yX1_comesTo cX1_comesTo 8 (some .int) 1 24 [.ref (xo X), .int a1, .int a2, .int a3] σ (some (.int r)) σ' := MetZ.ofAt (by decide) (Nat.le_of_ble_eq_true rfl) (fun G _ Γ Ξ hR hret => wkX1_comesTo Γ Ξ hR h hret)
theorem kX1_X1comesTo {G : Gx} {X : Xw} {cc : ByteArray} {nL pc F LO : Nat} {σ σ' : St} {lv : List (Nat × Value)} {st : List Value} (Γ : Ok G RX1 cc nL) (Ξ : OkX 1 G X) {a1 : Int32} {a2 : Int32} {a3 : Int32} {r : Int32} (hRm : Rm G F LO) (hf : 1 + 1 ≤ F) (hlo : 8 + (8 + 11) + 24 ≤ LO) (h : m_comesTo σ a1 a2 a3 = some (r, σ')) (hW : (st.map fun v => v.category).sum ≤ 8) (d : decode cc pc = .ok (.invokevirtual 222, 3)) (kk : At G nL σ' lv (.int r :: st) (pc + 3)) : At G nL σ lv (.int a3 :: .int a2 :: .int a1 :: .ref (xo X) :: st) pc := A_callV Γ Ξ rfl rfl (mtX1_comesTo (gl G) X h) (lw_V q1358 q1360 qs35 q64 q1361) (n := 3) (by decide +kernel) (rm_ok hRm hf hlo) (rm_k hRm) rfl rfl hW d kk
set_option maxHeartbeats 4000000 in
set_option maxRecDepth 100000 in
theorem wkX1_comes {G : Gx} {X : Xw} {σ σ' : St} (Γ : Ok G RX1 cX1_comes 5) (Ξ : OkX 1 G X) (hRm : Rm G 2 51) {a1 : Int32} {a2 : Int32} {a3 : Int32} {r : Int32} (h : m_comes σ a1 a2 a3 = some (r, σ')) (hret : ∀ (pc : Nat) (lv : List (Nat × Value)), retIs cX1_comes (some .int) (some (.int r)) pc → At G 5 σ' lv [.int r] pc) : At G 5 σ [(0, .ref (xo X)), (1, .int a1), (2, .int a2), (3, .int a3)] [] 0 := by
  rw [m_comes] at h
  refine A_iload_n Γ dX1_comes_0 1 rfl ?_
  replace h := b1 h
  obtain ⟨v2, e1, h⟩ := h
  refine kX1_X1isYard Γ (kpX Ξ) hRm (by decide) (by decide) e1 (Nat.le_of_ble_eq_true rfl) dX1_comes_1 ?_
  refine A_if_eq (t := 24) Γ dX1_comes_4 (by decide) (fun c => ?_) (fun c => ?_)
  · replace h := it_t c h
    refine A_iconst (v := (-1)) Γ dX1_comes_24 (by decide) ?_
    obtain ⟨rfl, rfl⟩ := inj2 h
    exact hret _ _ dX1_comes_25
  · replace h := it_f c h
    refine A_iload_n Γ dX1_comes_7 2 rfl ?_
    refine A_iconst (v := 0) Γ dX1_comes_8 (by decide) ?_
    refine A_ldc (v := 99999) Γ q1338 dX1_comes_9 ?_
    replace h := b1 h
    obtain ⟨v4, e3, h⟩ := h
    refine kX1_X1in Γ (kpX Ξ) hRm (by decide) (by decide) e3 (Nat.le_of_ble_eq_true rfl) dX1_comes_11 ?_
    refine A_if_eq (t := 24) Γ dX1_comes_14 (by decide) (fun c => ?_) (fun c => ?_)
    · replace h := it_t c h
      refine A_iconst (v := (-1)) Γ dX1_comes_24 (by decide) ?_
      obtain ⟨rfl, rfl⟩ := inj2 h
      exact hret _ _ dX1_comes_25
    · replace h := it_f c h
      refine A_iload_n Γ dX1_comes_17 3 rfl ?_
      replace h := b1 h
      obtain ⟨v6, e5, h⟩ := h
      refine kX1_X1isYard Γ (kpX Ξ) hRm (by decide) (by decide) e5 (Nat.le_of_ble_eq_true rfl) dX1_comes_18 ?_
      refine A_if_ne (t := 26) Γ dX1_comes_21 (by decide) (fun c => ?_) (fun c => ?_)
      · replace h := it_f c h
        refine A_aload_n Γ dX1_comes_26 0 rfl ?_
        refine A_iload_n Γ dX1_comes_27 1 rfl ?_
        refine A_iload_n Γ dX1_comes_28 2 rfl ?_
        refine A_iload_n Γ dX1_comes_29 3 rfl ?_
        replace h := b2 h
        obtain ⟨v8, σ9, e7, h⟩ := h
        refine kX1_X1comesTo Γ Ξ hRm (by decide) (by decide) e7 (Nat.le_of_ble_eq_true rfl) dX1_comes_30 ?_
        refine A_istore (lv' := [(4, .int v8), (0, .ref (xo X)), (1, .int a1), (2, .int a2), (3, .int a3)]) Γ dX1_comes_33 (by decide) rfl ?_
        refine A_iload Γ dX1_comes_35 0 rfl ?_
        refine A_ldc (v := 100000000) Γ q1362 dX1_comes_37 ?_
        replace h := b2 h
        obtain ⟨σ11, x12, eJ10, h⟩ := h
        have hJJ10 : At G 5 σ11 [] [.int x12] 52 := by
          obtain ⟨rfl, rfl⟩ := inj2 h
          exact hret _ _ dX1_comes_52
        refine A_icmp_ge (t := 47) Γ dX1_comes_39 (by decide) (fun c => ?_) (fun c => ?_)
        · replace eJ10 := it_t c eJ10
          refine A_aload_n Γ dX1_comes_47 1 rfl ?_
          refine A_iconst (v := 1) Γ dX1_comes_48 (by decide) ?_
          replace eJ10 := b2 eJ10
          obtain ⟨v14, σ15, e13, eJ10⟩ := eJ10
          refine kX1_X1meets Γ Ξ hRm (by decide) (by decide) e13 (Nat.le_of_ble_eq_true rfl) dX1_comes_49 ?_
          obtain ⟨rfl, rfl⟩ := inj2 eJ10
          exact A_sub [] rfl hJJ10
        · replace eJ10 := it_f c eJ10
          refine A_iload Γ dX1_comes_42 0 rfl ?_
          refine A_goto (t := 52) Γ dX1_comes_44 (by decide) ?_
          obtain ⟨rfl, rfl⟩ := inj2 eJ10
          exact A_sub [] rfl hJJ10
      · replace h := it_t c h
        refine A_iconst (v := (-1)) Γ dX1_comes_24 (by decide) ?_
        obtain ⟨rfl, rfl⟩ := inj2 h
        exact hret _ _ dX1_comes_25
theorem mtX1_comes (l : Launch) (X : Xw) {σ σ' : St} {a1 : Int32} {a2 : Int32} {a3 : Int32} {r : Int32} (h : m_comes σ a1 a2 a3 = some (r, σ')) : MetZ 1 l X yX1_comes cX1_comes 5 (some .int) 2 51 [.ref (xo X), .int a1, .int a2, .int a3] σ (some (.int r)) σ' := MetZ.ofAt (by decide) (Nat.le_of_ble_eq_true rfl) (fun G _ Γ Ξ hR hret => wkX1_comes Γ Ξ hR h hret)

set_option maxHeartbeats 4000000 in
set_option maxRecDepth 100000 in
theorem wkX1_toll {G : Gx} {X : Xw} {σ σ' : St} (Γ : Ok G RX1 cX1_toll 6) (Ξ : OkX 1 G X) (hRm : Rm G 2 42) {a1 : Int32} {a2 : Int32} {r : Int32} (h : m_toll σ a1 a2 = some (r, σ')) (hret : ∀ (pc : Nat) (lv : List (Nat × Value)), retIs cX1_toll (some .int) (some (.int r)) pc → At G 6 σ' lv [.int r] pc) : At G 6 σ [(0, .ref (xo X)), (1, .int a1), (2, .int a2)] [] 0 := by
  rw [m_toll] at h
  refine A_iload_n Γ dX1_toll_0 1 rfl ?_
  replace h := b1 h
  obtain ⟨v2, e1, h⟩ := h
  refine kX1_X1isYard Γ (kpX Ξ) hRm (by decide) (by decide) e1 (Nat.le_of_ble_eq_true rfl) dX1_toll_1 ?_
  refine A_if_eq (t := 14) Γ dX1_toll_4 (by decide) (fun c => ?_) (fun c => ?_)
  · replace h := it_t c h
    refine A_iconst (v := (-1)) Γ dX1_toll_14 (by decide) ?_
    obtain ⟨rfl, rfl⟩ := inj2 h
    exact hret _ _ dX1_toll_15
  · replace h := it_f c h
    refine A_iload_n Γ dX1_toll_7 2 rfl ?_
    replace h := b1 h
    obtain ⟨v4, e3, h⟩ := h
    refine kX1_X1isYard Γ (kpX Ξ) hRm (by decide) (by decide) e3 (Nat.le_of_ble_eq_true rfl) dX1_toll_8 ?_
    refine A_if_ne (t := 16) Γ dX1_toll_11 (by decide) (fun c => ?_) (fun c => ?_)
    · replace h := it_f c h
      refine A_iconst (v := 0) Γ dX1_toll_16 (by decide) ?_
      refine A_istore_n (lv' := [(3, .int 0), (0, .ref (xo X)), (1, .int a1), (2, .int a2)]) Γ dX1_toll_17 (by decide) rfl ?_
      replace h := b1 h
      obtain ⟨σ8, eLL5, h⟩ := h
      have hXL5 : At G 6 σ8 [(0, .ref (xo X)), (2, .int a2)] [] 47 := by
        refine A_iconst (v := 0) Γ dX1_toll_47 (by decide) ?_
        refine A_istore_n (lv' := [(3, .int 0), (0, .ref (xo X)), (2, .int a2)]) Γ dX1_toll_48 (by decide) rfl ?_
        replace h := b1 h
        obtain ⟨σ16, eLL13, h⟩ := h
        have hXL13 : At G 6 σ16 [(0, .ref (xo X)), (2, .int a2)] [] 152 := by
          refine A_aload_n Γ dX1_toll_152 0 rfl ?_
          refine g1_15 Γ Ξ dX1_toll_153 ?_
          refine A_iload_n Γ dX1_toll_156 1 rfl ?_
          replace h := b1 h
          obtain ⟨v37, e38, h⟩ := h
          refine r1_15 Γ Ξ e38 dX1_toll_157 ?_
          refine A_ldc (v := 100000000) Γ q1362 dX1_toll_158 ?_
          replace h := b2 h
          obtain ⟨σ40, x41, eJ39, h⟩ := h
          have hJJ39 : At G 6 σ40 [] [.int x41] 177 := by
            obtain ⟨rfl, rfl⟩ := inj2 h
            exact hret _ _ dX1_toll_177
          refine A_icmp_ge (t := 172) Γ dX1_toll_160 (by decide) (fun c => ?_) (fun c => ?_)
          · replace eJ39 := it_t c eJ39
            refine A_aload_n Γ dX1_toll_172 0 rfl ?_
            refine A_iconst (v := 1) Γ dX1_toll_173 (by decide) ?_
            replace eJ39 := b2 eJ39
            obtain ⟨v43, σ44, e42, eJ39⟩ := eJ39
            refine kX1_X1meets Γ Ξ hRm (by decide) (by decide) e42 (Nat.le_of_ble_eq_true rfl) dX1_toll_174 ?_
            obtain ⟨rfl, rfl⟩ := inj2 eJ39
            exact A_sub [] rfl hJJ39
          · replace eJ39 := it_f c eJ39
            refine A_aload_n Γ dX1_toll_163 0 rfl ?_
            refine g1_15 Γ Ξ dX1_toll_164 ?_
            refine A_iload_n Γ dX1_toll_167 1 rfl ?_
            replace eJ39 := b1 eJ39
            obtain ⟨v45, e46, eJ39⟩ := eJ39
            refine r1_15 Γ Ξ e46 dX1_toll_168 ?_
            refine A_goto (t := 177) Γ dX1_toll_169 (by decide) ?_
            obtain ⟨rfl, rfl⟩ := inj2 eJ39
            exact A_sub [] rfl hJJ39
        replace eLL13 := lq2_ex eLL13
        obtain ⟨nL13, eLL13⟩ := eLL13
        have hLL13 : ∀ (nL13 : Nat) (σ14 : St) (x15 : Int32), lpf2 (m_toll_L13) nL13 σ14 x15 = some σ16 → At G 6 σ14 [(0, .ref (xo X)), (2, .int a2), (3, .int x15)] [] 49 := by
          intro nL13
          induction nL13 with
          | zero => intro σ14 x15 eL13; exact (lpf2_0 eL13).elim
          | succ nL13 ihL13 =>
            intro σ14 x15 eL13
            replace eL13 := lpf2_s eL13
            obtain ⟨qL13, eL13, hqL13⟩ := eL13
            rw [m_toll_L13] at eL13
            refine A_iload_n Γ dX1_toll_49 2 rfl ?_
            refine A_bipush (v := 8) Γ dX1_toll_50 (by decide) ?_
            refine A_icmp_ge (t := 152) Γ dX1_toll_52 (by decide) (fun c => ?_) (fun c => ?_)
            · replace eL13 := it_t c eL13
              obtain rfl := pr1 (lpx2 eL13 hqL13)
              exact A_sub [0, 1] rfl hXL13
            · replace eL13 := it_f c eL13
              refine A_iconst (v := 0) Γ dX1_toll_55 (by decide) ?_
              refine A_istore (lv' := [(4, .int 0), (0, .ref (xo X)), (2, .int a2), (3, .int x15)]) Γ dX1_toll_56 (by decide) rfl ?_
              replace eL13 := b1 eL13
              obtain ⟨σ20, eLL17, eL13⟩ := eL13
              have hXL17 : At G 6 σ20 [(0, .ref (xo X)), (2, .int a2), (3, .int x15)] [] 146 := by
                refine A_iinc (v := x15 + 1) (lv' := [(3, .int (x15 + 1)), (0, .ref (xo X)), (2, .int a2)]) Γ dX1_toll_146 2 rfl rfl (by decide) rfl ?_
                refine A_goto (t := 49) Γ dX1_toll_149 (by decide) ?_
                exact A_sub [1, 2, 0] rfl (ihL13 _ _ (lpc2 eL13 hqL13))
              replace eLL17 := lq2_ex eLL17
              obtain ⟨nL17, eLL17⟩ := eLL17
              have hLL17 : ∀ (nL17 : Nat) (σ18 : St) (x19 : Int32), lpf2 (m_toll_L17) nL17 σ18 x19 = some σ20 → At G 6 σ18 [(0, .ref (xo X)), (2, .int a2), (3, .int x15), (4, .int x19)] [] 58 := by
                intro nL17
                induction nL17 with
                | zero => intro σ18 x19 eL17; exact (lpf2_0 eL17).elim
                | succ nL17 ihL17 =>
                  intro σ18 x19 eL17
                  replace eL17 := lpf2_s eL17
                  obtain ⟨qL17, eL17, hqL17⟩ := eL17
                  rw [m_toll_L17] at eL17
                  refine A_iload Γ dX1_toll_58 3 rfl ?_
                  refine A_bipush (v := 64) Γ dX1_toll_60 (by decide) ?_
                  refine A_icmp_ge (t := 146) Γ dX1_toll_62 (by decide) (fun c => ?_) (fun c => ?_)
                  · replace eL17 := it_t c eL17
                    obtain rfl := pr1 (lpx2 eL17 hqL17)
                    exact A_sub [0, 1, 2] rfl hXL17
                  · replace eL17 := it_f c eL17
                    refine A_aload_n Γ dX1_toll_65 0 rfl ?_
                    refine g1_11 Γ Ξ dX1_toll_66 ?_
                    refine A_iload Γ dX1_toll_69 3 rfl ?_
                    replace eL17 := b1 eL17
                    obtain ⟨v21, e22, eL17⟩ := eL17
                    refine r1_11 Γ Ξ e22 dX1_toll_71 ?_
                    replace eL17 := b1 eL17
                    obtain ⟨x24, eJ23, eL17⟩ := eL17
                    have hJJ23 : At G 6 σ18 [(0, .ref (xo X)), (2, .int a2), (3, .int x15), (4, .int x19)] [.int x24] 98 := by
                      refine A_istore (lv' := [(5, .int x24), (0, .ref (xo X)), (2, .int a2), (3, .int x15), (4, .int x19)]) Γ dX1_toll_98 (by decide) rfl ?_
                      refine A_aload_n Γ dX1_toll_100 1 rfl ?_
                      refine g1_15 Γ Ξ dX1_toll_101 ?_
                      refine A_iload Γ dX1_toll_104 4 rfl ?_
                      refine A_bipush (v := 8) Γ dX1_toll_106 (by decide) ?_
                      refine A_irem Γ dX1_toll_108 (by decide) ?_
                      refine A_iload Γ dX1_toll_109 0 rfl ?_
                      refine A_aload_n Γ dX1_toll_111 1 rfl ?_
                      refine g1_15 Γ Ξ dX1_toll_112 ?_
                      refine A_iload Γ dX1_toll_115 4 rfl ?_
                      refine A_bipush (v := 8) Γ dX1_toll_117 (by decide) ?_
                      refine A_irem Γ dX1_toll_119 (by decide) ?_
                      replace eL17 := b1 eL17
                      obtain ⟨v29, e30, eL17⟩ := eL17
                      refine r1_15 Γ Ξ e30 dX1_toll_120 ?_
                      replace eL17 := b1 eL17
                      obtain ⟨x32, eJ31, eL17⟩ := eL17
                      have hJJ31 : At G 6 σ18 [(0, .ref (xo X)), (2, .int a2), (3, .int x15), (4, .int x19)] [.int x32, .int (x19 - x19 / 8 * 8), .ref (xad X 15)] 139 := by
                        replace eL17 := b1 eL17
                        obtain ⟨σ35, e36, eL17⟩ := eL17
                        refine w1_15 Γ Ξ e36 dX1_toll_139 ?_
                        refine A_iinc (v := x19 + 1) (lv' := [(4, .int (x19 + 1)), (0, .ref (xo X)), (2, .int a2), (3, .int x15)]) Γ dX1_toll_140 3 rfl rfl (by decide) rfl ?_
                        refine A_goto (t := 58) Γ dX1_toll_143 (by decide) ?_
                        exact A_sub [1, 2, 3, 0] rfl (ihL17 _ _ (lpc2 eL17 hqL17))
                      refine A_icmp_ge (t := 129) Γ dX1_toll_121 (by decide) (fun c => ?_) (fun c => ?_)
                      · replace eJ31 := it_t c eJ31
                        refine A_aload_n Γ dX1_toll_129 1 rfl ?_
                        refine g1_15 Γ Ξ dX1_toll_130 ?_
                        refine A_iload Γ dX1_toll_133 4 rfl ?_
                        refine A_bipush (v := 8) Γ dX1_toll_135 (by decide) ?_
                        refine A_irem Γ dX1_toll_137 (by decide) ?_
                        replace eJ31 := b1 eJ31
                        obtain ⟨v33, e34, eJ31⟩ := eJ31
                        refine r1_15 Γ Ξ e34 dX1_toll_138 ?_
                        obtain rfl := inj1 eJ31
                        exact A_sub [1, 2, 3, 4] rfl hJJ31
                      · replace eJ31 := it_f c eJ31
                        refine A_iload Γ dX1_toll_124 0 rfl ?_
                        refine A_goto (t := 139) Γ dX1_toll_126 (by decide) ?_
                        obtain rfl := inj1 eJ31
                        exact A_sub [1, 2, 3, 4] rfl hJJ31
                    refine A_if_le (t := 96) Γ dX1_toll_72 (by decide) (fun c => ?_) (fun c => ?_)
                    · replace eJ23 := it_t c eJ23
                      refine A_ldc (v := 100000000) Γ q1362 dX1_toll_96 ?_
                      obtain rfl := inj1 eJ23
                      exact A_sub [0, 1, 2, 3] rfl hJJ23
                    · replace eJ23 := it_f c eJ23
                      refine A_aload_n Γ dX1_toll_75 0 rfl ?_
                      refine g1_15 Γ Ξ dX1_toll_76 ?_
                      refine A_iload Γ dX1_toll_79 3 rfl ?_
                      refine A_bipush (v := 8) Γ dX1_toll_81 (by decide) ?_
                      refine A_idiv Γ dX1_toll_83 (by decide) ?_
                      replace eJ23 := b1 eJ23
                      obtain ⟨v25, e26, eJ23⟩ := eJ23
                      refine r1_15 Γ Ξ e26 dX1_toll_84 ?_
                      refine A_aload_n Γ dX1_toll_85 0 rfl ?_
                      refine g1_12 Γ Ξ dX1_toll_86 ?_
                      refine A_iload Γ dX1_toll_89 3 rfl ?_
                      replace eJ23 := b1 eJ23
                      obtain ⟨v27, e28, eJ23⟩ := eJ23
                      refine r1_12 Γ Ξ e28 dX1_toll_91 ?_
                      refine A_iadd Γ dX1_toll_92 ?_
                      refine A_goto (t := 98) Γ dX1_toll_93 (by decide) ?_
                      obtain rfl := inj1 eJ23
                      exact A_sub [0, 1, 2, 3] rfl hJJ23
              exact A_sub [1, 2, 3, 0] rfl (hLL17 _ _ _ eLL17)
        exact A_sub [1, 2, 0] rfl (hLL13 _ _ _ eLL13)
      replace eLL5 := lq2_ex eLL5
      obtain ⟨nL5, eLL5⟩ := eLL5
      have hLL5 : ∀ (nL5 : Nat) (σ6 : St) (x7 : Int32), lpf2 (m_toll_L5 a1) nL5 σ6 x7 = some σ8 → At G 6 σ6 [(0, .ref (xo X)), (1, .int a1), (2, .int a2), (3, .int x7)] [] 18 := by
        intro nL5
        induction nL5 with
        | zero => intro σ6 x7 eL5; exact (lpf2_0 eL5).elim
        | succ nL5 ihL5 =>
          intro σ6 x7 eL5
          replace eL5 := lpf2_s eL5
          obtain ⟨qL5, eL5, hqL5⟩ := eL5
          rw [m_toll_L5] at eL5
          refine A_iload_n Γ dX1_toll_18 3 rfl ?_
          refine A_bipush (v := 8) Γ dX1_toll_19 (by decide) ?_
          refine A_icmp_ge (t := 47) Γ dX1_toll_21 (by decide) (fun c => ?_) (fun c => ?_)
          · replace eL5 := it_t c eL5
            obtain rfl := pr1 (lpx2 eL5 hqL5)
            exact A_sub [0, 2] rfl hXL5
          · replace eL5 := it_f c eL5
            refine A_aload_n Γ dX1_toll_24 0 rfl ?_
            refine g1_15 Γ Ξ dX1_toll_25 ?_
            refine A_iload_n Γ dX1_toll_28 3 rfl ?_
            refine A_iload_n Γ dX1_toll_29 3 rfl ?_
            refine A_iload_n Γ dX1_toll_30 1 rfl ?_
            replace eL5 := b1 eL5
            obtain ⟨x10, eJ9, eL5⟩ := eL5
            have hJJ9 : At G 6 σ6 [(0, .ref (xo X)), (1, .int a1), (2, .int a2), (3, .int x7)] [.int x10, .int x7, .ref (xad X 15)] 40 := by
              replace eL5 := b1 eL5
              obtain ⟨σ11, e12, eL5⟩ := eL5
              refine w1_15 Γ Ξ e12 dX1_toll_40 ?_
              refine A_iinc (v := x7 + 1) (lv' := [(3, .int (x7 + 1)), (0, .ref (xo X)), (1, .int a1), (2, .int a2)]) Γ dX1_toll_41 3 rfl rfl (by decide) rfl ?_
              refine A_goto (t := 18) Γ dX1_toll_44 (by decide) ?_
              exact A_sub [1, 2, 3, 0] rfl (ihL5 _ _ (lpc2 eL5 hqL5))
            refine A_icmp_ne (t := 38) Γ dX1_toll_31 (by decide) (fun c => ?_) (fun c => ?_)
            · replace eJ9 := it_f c eJ9
              refine A_ldc (v := 100000000) Γ q1362 dX1_toll_38 ?_
              obtain rfl := inj1 eJ9
              exact A_sub [0, 1, 2, 3] rfl hJJ9
            · replace eJ9 := it_t c eJ9
              refine A_iconst (v := 0) Γ dX1_toll_34 (by decide) ?_
              refine A_goto (t := 40) Γ dX1_toll_35 (by decide) ?_
              obtain rfl := inj1 eJ9
              exact A_sub [0, 1, 2, 3] rfl hJJ9
      exact A_sub [1, 2, 3, 0] rfl (hLL5 _ _ _ eLL5)
    · replace h := it_t c h
      refine A_iconst (v := (-1)) Γ dX1_toll_14 (by decide) ?_
      obtain ⟨rfl, rfl⟩ := inj2 h
      exact hret _ _ dX1_toll_15
theorem mtX1_toll (l : Launch) (X : Xw) {σ σ' : St} {a1 : Int32} {a2 : Int32} {r : Int32} (h : m_toll σ a1 a2 = some (r, σ')) : MetZ 1 l X yX1_toll cX1_toll 6 (some .int) 2 42 [.ref (xo X), .int a1, .int a2] σ (some (.int r)) σ' := MetZ.ofAt (by decide) (Nat.le_of_ble_eq_true rfl) (fun G _ Γ Ξ hR hret => wkX1_toll Γ Ξ hR h hret)

set_option maxHeartbeats 4000000 in
set_option maxRecDepth 100000 in
theorem wkX1_enter {G : Gx} {X : Xw} {σ σ' : St} (Γ : Ok G RX1 cX1_enter 5) (Ξ : OkX 1 G X) (hRm : Rm G 0 0) {a1 : Int32} {a2 : Int32} {a3 : Int32} {a4 : Int32}  (h : m_enter σ a1 a2 a3 a4 = some σ') (hret : ∀ (pc : Nat) (lv : List (Nat × Value)), retIs cX1_enter none (none) pc → At G 5 σ' lv [] pc) : At G 5 σ [(0, .ref (xo X)), (1, .int a1), (2, .int a2), (3, .int a3), (4, .int a4)] [] 0 := by
  rw [m_enter] at h
  refine A_aload_n Γ dX1_enter_0 0 rfl ?_
  refine g1_35 Γ Ξ dX1_enter_1 ?_
  refine A_aload_n Γ dX1_enter_4 0 rfl ?_
  refine g1_34 Γ Ξ dX1_enter_5 ?_
  refine A_iload_n Γ dX1_enter_8 1 rfl ?_
  replace h := b1 h
  obtain ⟨σ1, e2, h⟩ := h
  refine w1_35 Γ Ξ e2 dX1_enter_9 ?_
  refine A_aload_n Γ dX1_enter_10 0 rfl ?_
  refine g1_36 Γ Ξ dX1_enter_11 ?_
  refine A_aload_n Γ dX1_enter_14 0 rfl ?_
  refine g1_34 Γ Ξ dX1_enter_15 ?_
  refine A_iload_n Γ dX1_enter_18 2 rfl ?_
  replace h := b1 h
  obtain ⟨σ3, e4, h⟩ := h
  refine w1_36 Γ Ξ e4 dX1_enter_19 ?_
  refine A_aload_n Γ dX1_enter_20 0 rfl ?_
  refine g1_37 Γ Ξ dX1_enter_21 ?_
  refine A_aload_n Γ dX1_enter_24 0 rfl ?_
  refine g1_34 Γ Ξ dX1_enter_25 ?_
  refine A_aload_n Γ dX1_enter_28 0 rfl ?_
  refine g1_5 Γ Ξ dX1_enter_29 ?_
  replace h := b1 h
  obtain ⟨σ5, e6, h⟩ := h
  refine w1_37 Γ Ξ e6 dX1_enter_32 ?_
  refine A_aload_n Γ dX1_enter_33 0 rfl ?_
  refine g1_38 Γ Ξ dX1_enter_34 ?_
  refine A_aload_n Γ dX1_enter_37 0 rfl ?_
  refine g1_34 Γ Ξ dX1_enter_38 ?_
  refine A_iload_n Γ dX1_enter_41 3 rfl ?_
  replace h := b1 h
  obtain ⟨σ7, e8, h⟩ := h
  refine w1_38 Γ Ξ e8 dX1_enter_42 ?_
  refine A_aload_n Γ dX1_enter_43 0 rfl ?_
  refine g1_39 Γ Ξ dX1_enter_44 ?_
  refine A_aload_n Γ dX1_enter_47 0 rfl ?_
  refine g1_34 Γ Ξ dX1_enter_48 ?_
  refine A_iload Γ dX1_enter_51 4 rfl ?_
  replace h := b1 h
  obtain ⟨σ9, e10, h⟩ := h
  refine w1_39 Γ Ξ e10 dX1_enter_53 ?_
  refine A_aload_n Γ dX1_enter_54 0 rfl ?_
  refine A_dup Γ dX1_enter_55 rfl ?_
  refine g1_34 Γ Ξ dX1_enter_56 ?_
  refine A_iconst (v := 1) Γ dX1_enter_59 (by decide) ?_
  refine A_iadd Γ dX1_enter_60 ?_
  refine p1_34 Γ Ξ dX1_enter_61 ?_
  obtain rfl := inj1 h
  exact hret _ _ dX1_enter_64
theorem mtX1_enter (l : Launch) (X : Xw) {σ σ' : St} {a1 : Int32} {a2 : Int32} {a3 : Int32} {a4 : Int32}  (h : m_enter σ a1 a2 a3 a4 = some σ') : MetZ 1 l X yX1_enter cX1_enter 5 none 0 0 [.ref (xo X), .int a1, .int a2, .int a3, .int a4] σ (none) σ' := MetZ.ofAt (by decide) (Nat.le_of_ble_eq_true rfl) (fun G _ Γ Ξ hR hret => wkX1_enter Γ Ξ hR h hret)
theorem kX1_X1enter {G : Gx} {X : Xw} {cc : ByteArray} {nL pc F LO : Nat} {σ σ' : St} {lv : List (Nat × Value)} {st : List Value} (Γ : Ok G RX1 cc nL) (Ξ : OkX 1 G X) {a1 : Int32} {a2 : Int32} {a3 : Int32} {a4 : Int32}  (hRm : Rm G F LO) (hf : 0 + 1 ≤ F) (hlo : 8 + (5 + 11) + 0 ≤ LO) (h : m_enter σ a1 a2 a3 a4 = some σ') (hW : (st.map fun v => v.category).sum ≤ 8) (d : decode cc pc = .ok (.invokevirtual 236, 3)) (kk : At G nL σ' lv (st) (pc + 3)) : At G nL σ lv (.int a4 :: .int a3 :: .int a2 :: .int a1 :: .ref (xo X) :: st) pc := A_callV Γ Ξ rfl rfl (mtX1_enter (gl G) X h) (lw_V q1379 q1381 qs37 q64 q1382) (n := 4) (by decide +kernel) (rm_ok hRm hf hlo) (rm_k hRm) rfl rfl hW d kk
set_option maxHeartbeats 4000000 in
set_option maxRecDepth 100000 in
theorem wkX1_isTrailer {G : Gx} {X : Xw} {σ : St} (Γ : Ok G RX1 cX1_isTrailer 2) (Ξ : OkX 1 G X) (hRm : Rm G 1 22) {a1 : Int32} {r : Int32} (h : m_isTrailer σ a1 = some r) (hret : ∀ (pc : Nat) (lv : List (Nat × Value)), retIs cX1_isTrailer (some .boolean) (some (.int r)) pc → At G 2 σ lv [.int r] pc) : At G 2 σ [(0, .ref (xo X)), (1, .int a1)] [] 0 := by
  rw [m_isTrailer] at h
  refine A_iload_n Γ dX1_isTrailer_0 1 rfl ?_
  refine A_iconst (v := 0) Γ dX1_isTrailer_1 (by decide) ?_
  refine A_aload_n Γ dX1_isTrailer_2 0 rfl ?_
  refine g1_16 Γ Ξ dX1_isTrailer_3 ?_
  refine A_iconst (v := 1) Γ dX1_isTrailer_6 (by decide) ?_
  refine A_isub Γ dX1_isTrailer_7 ?_
  replace h := b1 h
  obtain ⟨v2, e1, h⟩ := h
  refine kX1_X1in Γ (kpX Ξ) hRm (by decide) (by decide) e1 (Nat.le_of_ble_eq_true rfl) dX1_isTrailer_8 ?_
  replace h := b1 h
  obtain ⟨v4, e3, h⟩ := h
  obtain ⟨rfl, hze3⟩ := bZ_in e3
  obtain rfl := inj1 h
  exact hret _ _ ⟨dX1_isTrailer_11, hze3⟩
theorem mtX1_isTrailer (l : Launch) (X : Xw) {σ : St} {a1 : Int32} {r : Int32} (h : m_isTrailer σ a1 = some r) : MetZ 1 l X yX1_isTrailer cX1_isTrailer 2 (some .boolean) 1 22 [.ref (xo X), .int a1] σ (some (.int r)) σ := MetZ.ofAt (by decide) (Nat.le_of_ble_eq_true rfl) (fun G _ Γ Ξ hR hret => wkX1_isTrailer Γ Ξ hR h hret)
theorem kX1_X1isTrailer {G : Gx} {X : Xw} {cc : ByteArray} {nL pc F LO : Nat} {σ : St} {lv : List (Nat × Value)} {st : List Value} (Γ : Ok G RX1 cc nL) (Ξ : OkX 1 G X) {a1 : Int32} {r : Int32} (hRm : Rm G F LO) (hf : 1 + 1 ≤ F) (hlo : 8 + (2 + 11) + 22 ≤ LO) (h : m_isTrailer σ a1 = some r) (hW : (st.map fun v => v.category).sum ≤ 8) (d : decode cc pc = .ok (.invokevirtual 240, 3)) (kk : At G nL σ lv (.int r :: st) (pc + 3)) : At G nL σ lv (.int a1 :: .ref (xo X) :: st) pc := A_callV Γ Ξ rfl rfl (mtX1_isTrailer (gl G) X h) (lw_V q1387 q1389 qs38 q64 q1390) (n := 1) (by decide +kernel) (rm_ok hRm hf hlo) (rm_k hRm) rfl rfl hW d kk
set_option maxHeartbeats 4000000 in
set_option maxRecDepth 100000 in
theorem wkX1_isTractor {G : Gx} {X : Xw} {σ : St} (Γ : Ok G RX1 cX1_isTractor 1) (hkp : ∀ (H H1 : Heap), gP G σ H → (∀ q : Nat, q < H.size → H1[q]? = H[q]?) → gP G σ H1) (hRm : Rm G 1 22) {a0 : Int32} {r : Int32} (h : m_isTractor a0 = some r) (hret : ∀ (pc : Nat) (lv : List (Nat × Value)), retIs cX1_isTractor (some .boolean) (some (.int r)) pc → At G 1 σ lv [.int r] pc) : At G 1 σ [(0, .int a0)] [] 0 := by
  rw [m_isTractor] at h
  refine A_iload_n Γ dX1_isTractor_0 0 rfl ?_
  refine A_iconst (v := 0) Γ dX1_isTractor_1 (by decide) ?_
  refine A_iconst (v := 5) Γ dX1_isTractor_2 (by decide) ?_
  replace h := b1 h
  obtain ⟨v2, e1, h⟩ := h
  refine kX1_X1in Γ hkp hRm (by decide) (by decide) e1 (Nat.le_of_ble_eq_true rfl) dX1_isTractor_3 ?_
  replace h := b1 h
  obtain ⟨v4, e3, h⟩ := h
  obtain ⟨rfl, hze3⟩ := bZ_in e3
  obtain rfl := inj1 h
  exact hret _ _ ⟨dX1_isTractor_6, hze3⟩
theorem mtX1_isTractor (l : Launch) {a0 : Int32} {r : Int32} (h : m_isTractor a0 = some r) : MetS l yX1_isTractor cX1_isTractor 1 (some .boolean) 1 22 [.int a0] (some (.int r)) := MetS.ofAt ((fun _ => 0), (fun _ => 0), (fun _ _ => 0), (fun _ _ => 0), fun _ => none) (by decide) (Nat.le_of_ble_eq_true rfl) (fun G _ Γ hR hp hret => wkX1_isTractor (X := (0, (fun _ => 0), (fun _ => 0), (fun _ _ => 0), (fun _ => 0), (fun _ => True))) Γ hp hR h hret)
theorem kX1_X1isTractor {G : Gx} {cc : ByteArray} {nL pc F LO : Nat} {σ : St} {lv : List (Nat × Value)} {st : List Value} (Γ : Ok G RX1 cc nL) (hkp : ∀ (H H1 : Heap), gP G σ H → (∀ q : Nat, q < H.size → H1[q]? = H[q]?) → gP G σ H1) {a0 : Int32} {r : Int32} (hRm : Rm G F LO) (hf : 1 + 1 ≤ F) (hlo : 8 + (1 + 11) + 22 ≤ LO) (h : m_isTractor a0 = some r) (hW : (st.map fun v => v.category).sum ≤ 8) (d : decode cc pc = .ok (.invokestatic 258, 3)) (kk : At G nL σ lv (.int r :: st) (pc + 3)) : At G nL σ lv (.int a0 :: st) pc := A_callS Γ hkp rfl (mtX1_isTractor (gl G) h) (lw_S q1422 q1423 q64 q1424) (n := 1) (by decide +kernel) (rm_ok hRm hf hlo) (rm_k hRm) rfl rfl hW d kk
set_option maxHeartbeats 4000000 in
set_option maxRecDepth 100000 in
theorem wkX1_isWorth {G : Gx} {X : Xw} {σ : St} (Γ : Ok G RX1 cX1_isWorth 1) (hkp : ∀ (H H1 : Heap), gP G σ H → (∀ q : Nat, q < H.size → H1[q]? = H[q]?) → gP G σ H1) (hRm : Rm G 1 22) {a0 : Int32} {r : Int32} (h : m_isWorth a0 = some r) (hret : ∀ (pc : Nat) (lv : List (Nat × Value)), retIs cX1_isWorth (some .boolean) (some (.int r)) pc → At G 1 σ lv [.int r] pc) : At G 1 σ [(0, .int a0)] [] 0 := by
  rw [m_isWorth] at h
  refine A_iload_n Γ dX1_isWorth_0 0 rfl ?_
  refine A_iconst (v := 0) Γ dX1_isWorth_1 (by decide) ?_
  refine A_ldc (v := 100000) Γ q1378 dX1_isWorth_2 ?_
  replace h := b1 h
  obtain ⟨v2, e1, h⟩ := h
  refine kX1_X1in Γ hkp hRm (by decide) (by decide) e1 (Nat.le_of_ble_eq_true rfl) dX1_isWorth_4 ?_
  replace h := b1 h
  obtain ⟨v4, e3, h⟩ := h
  obtain ⟨rfl, hze3⟩ := bZ_in e3
  obtain rfl := inj1 h
  exact hret _ _ ⟨dX1_isWorth_7, hze3⟩
theorem mtX1_isWorth (l : Launch) {a0 : Int32} {r : Int32} (h : m_isWorth a0 = some r) : MetS l yX1_isWorth cX1_isWorth 1 (some .boolean) 1 22 [.int a0] (some (.int r)) := MetS.ofAt ((fun _ => 0), (fun _ => 0), (fun _ _ => 0), (fun _ _ => 0), fun _ => none) (by decide) (Nat.le_of_ble_eq_true rfl) (fun G _ Γ hR hp hret => wkX1_isWorth (X := (0, (fun _ => 0), (fun _ => 0), (fun _ _ => 0), (fun _ => 0), (fun _ => True))) Γ hp hR h hret)
theorem kX1_X1isWorth {G : Gx} {cc : ByteArray} {nL pc F LO : Nat} {σ : St} {lv : List (Nat × Value)} {st : List Value} (Γ : Ok G RX1 cc nL) (hkp : ∀ (H H1 : Heap), gP G σ H → (∀ q : Nat, q < H.size → H1[q]? = H[q]?) → gP G σ H1) {a0 : Int32} {r : Int32} (hRm : Rm G F LO) (hf : 1 + 1 ≤ F) (hlo : 8 + (1 + 11) + 22 ≤ LO) (h : m_isWorth a0 = some r) (hW : (st.map fun v => v.category).sum ≤ 8) (d : decode cc pc = .ok (.invokestatic 233, 3)) (kk : At G nL σ lv (.int r :: st) (pc + 3)) : At G nL σ lv (.int a0 :: st) pc := A_callS Γ hkp rfl (mtX1_isWorth (gl G) h) (lw_S q1375 q1376 q64 q1377) (n := 1) (by decide +kernel) (rm_ok hRm hf hlo) (rm_k hRm) rfl rfl hW d kk
set_option maxHeartbeats 4000000 in
set_option maxRecDepth 100000 in
theorem wkX1_trailer {G : Gx} {X : Xw} {σ σ' : St} (Γ : Ok G RX1 cX1_trailer 4) (Ξ : OkX 1 G X) (hRm : Rm G 2 42) {a1 : Int32} {a2 : Int32} {a3 : Int32} {r : Int32} (h : m_trailer σ a1 a2 a3 = some (r, σ')) (hret : ∀ (pc : Nat) (lv : List (Nat × Value)), retIs cX1_trailer (some .int) (some (.int r)) pc → At G 4 σ' lv [.int r] pc) : At G 4 σ [(0, .ref (xo X)), (1, .int a1), (2, .int a2), (3, .int a3)] [] 0 := by
  rw [m_trailer] at h
  refine A_iload_n Γ dX1_trailer_0 1 rfl ?_
  refine A_iconst (v := 0) Γ dX1_trailer_1 (by decide) ?_
  refine A_iconst (v := 3) Γ dX1_trailer_2 (by decide) ?_
  replace h := b1 h
  obtain ⟨v2, e1, h⟩ := h
  refine kX1_X1in Γ (kpX Ξ) hRm (by decide) (by decide) e1 (Nat.le_of_ble_eq_true rfl) dX1_trailer_3 ?_
  refine A_if_eq (t := 23) Γ dX1_trailer_6 (by decide) (fun c => ?_) (fun c => ?_)
  · replace h := it_t c h
    refine A_iconst (v := (-1)) Γ dX1_trailer_23 (by decide) ?_
    obtain ⟨rfl, rfl⟩ := inj2 h
    exact hret _ _ dX1_trailer_24
  · replace h := it_f c h
    refine A_iload_n Γ dX1_trailer_9 2 rfl ?_
    replace h := b1 h
    obtain ⟨v4, e3, h⟩ := h
    refine kX1_X1isYard Γ (kpX Ξ) hRm (by decide) (by decide) e3 (Nat.le_of_ble_eq_true rfl) dX1_trailer_10 ?_
    refine A_if_eq (t := 23) Γ dX1_trailer_13 (by decide) (fun c => ?_) (fun c => ?_)
    · replace h := it_t c h
      refine A_iconst (v := (-1)) Γ dX1_trailer_23 (by decide) ?_
      obtain ⟨rfl, rfl⟩ := inj2 h
      exact hret _ _ dX1_trailer_24
    · replace h := it_f c h
      refine A_iload_n Γ dX1_trailer_16 3 rfl ?_
      replace h := b1 h
      obtain ⟨v6, e5, h⟩ := h
      refine kX1_X1isWorth Γ (kpX Ξ) hRm (by decide) (by decide) e5 (Nat.le_of_ble_eq_true rfl) dX1_trailer_17 ?_
      refine A_if_ne (t := 25) Γ dX1_trailer_20 (by decide) (fun c => ?_) (fun c => ?_)
      · replace h := it_f c h
        refine A_aload_n Γ dX1_trailer_25 0 rfl ?_
        refine g1_16 Γ Ξ dX1_trailer_26 ?_
        refine A_bipush (v := 12) Γ dX1_trailer_29 (by decide) ?_
        refine A_icmp_eq (t := 43) Γ dX1_trailer_31 (by decide) (fun c => ?_) (fun c => ?_)
        · replace h := it_t c h
          refine A_bipush (v := (-2)) Γ dX1_trailer_43 (by decide) ?_
          obtain ⟨rfl, rfl⟩ := inj2 h
          exact hret _ _ dX1_trailer_45
        · replace h := it_f c h
          refine A_aload_n Γ dX1_trailer_34 0 rfl ?_
          refine g1_34 Γ Ξ dX1_trailer_35 ?_
          refine A_bipush (v := 60) Γ dX1_trailer_38 (by decide) ?_
          refine A_icmp_ne (t := 46) Γ dX1_trailer_40 (by decide) (fun c => ?_) (fun c => ?_)
          · replace h := it_f c h
            refine A_aload_n Γ dX1_trailer_46 0 rfl ?_
            refine g1_17 Γ Ξ dX1_trailer_47 ?_
            refine A_aload_n Γ dX1_trailer_50 0 rfl ?_
            refine g1_16 Γ Ξ dX1_trailer_51 ?_
            refine A_iload_n Γ dX1_trailer_54 1 rfl ?_
            replace h := b1 h
            obtain ⟨σ7, e8, h⟩ := h
            refine w1_17 Γ Ξ e8 dX1_trailer_55 ?_
            refine A_aload_n Γ dX1_trailer_56 0 rfl ?_
            refine g1_18 Γ Ξ dX1_trailer_57 ?_
            refine A_aload_n Γ dX1_trailer_60 0 rfl ?_
            refine g1_16 Γ Ξ dX1_trailer_61 ?_
            refine A_iload_n Γ dX1_trailer_64 2 rfl ?_
            replace h := b1 h
            obtain ⟨σ9, e10, h⟩ := h
            refine w1_18 Γ Ξ e10 dX1_trailer_65 ?_
            refine A_aload_n Γ dX1_trailer_66 0 rfl ?_
            refine g1_19 Γ Ξ dX1_trailer_67 ?_
            refine A_aload_n Γ dX1_trailer_70 0 rfl ?_
            refine g1_16 Γ Ξ dX1_trailer_71 ?_
            refine A_bipush (v := (-9)) Γ dX1_trailer_74 (by decide) ?_
            replace h := b1 h
            obtain ⟨σ11, e12, h⟩ := h
            refine w1_19 Γ Ξ e12 dX1_trailer_76 ?_
            refine A_aload_n Γ dX1_trailer_77 0 rfl ?_
            refine g1_21 Γ Ξ dX1_trailer_78 ?_
            refine A_aload_n Γ dX1_trailer_81 0 rfl ?_
            refine g1_16 Γ Ξ dX1_trailer_82 ?_
            refine A_iload_n Γ dX1_trailer_85 3 rfl ?_
            replace h := b1 h
            obtain ⟨σ13, e14, h⟩ := h
            refine w1_21 Γ Ξ e14 dX1_trailer_86 ?_
            refine A_aload_n Γ dX1_trailer_87 0 rfl ?_
            refine g1_22 Γ Ξ dX1_trailer_88 ?_
            refine A_aload_n Γ dX1_trailer_91 0 rfl ?_
            refine g1_16 Γ Ξ dX1_trailer_92 ?_
            refine A_bipush (v := 100) Γ dX1_trailer_95 (by decide) ?_
            replace h := b1 h
            obtain ⟨σ15, e16, h⟩ := h
            refine w1_22 Γ Ξ e16 dX1_trailer_97 ?_
            refine A_aload_n Γ dX1_trailer_98 0 rfl ?_
            refine g1_27 Γ Ξ dX1_trailer_99 ?_
            refine A_aload_n Γ dX1_trailer_102 0 rfl ?_
            refine g1_16 Γ Ξ dX1_trailer_103 ?_
            refine A_iload_n Γ dX1_trailer_106 1 rfl ?_
            refine A_iconst (v := 3) Γ dX1_trailer_107 (by decide) ?_
            replace h := b1 h
            obtain ⟨x18, eJ17, h⟩ := h
            have hJJ17 : At G 4 σ15 [(0, .ref (xo X)), (2, .int a2)] [.int x18, .int (cI σ15 16), .ref (xad X 27)] 117 := by
              replace h := b1 h
              obtain ⟨σ19, e20, h⟩ := h
              refine w1_27 Γ Ξ e20 dX1_trailer_117 ?_
              refine A_aload_n Γ dX1_trailer_118 0 rfl ?_
              refine A_aload_n Γ dX1_trailer_119 0 rfl ?_
              refine g1_16 Γ Ξ dX1_trailer_120 ?_
              refine A_iconst (v := 0) Γ dX1_trailer_123 (by decide) ?_
              refine A_iload_n Γ dX1_trailer_124 1 rfl ?_
              refine A_iload_n Γ dX1_trailer_125 1 rfl ?_
              replace h := b1 h
              obtain ⟨σ22, e21, h⟩ := h
              refine kX1_X1enter Γ Ξ hRm (by decide) (by decide) e21 (Nat.le_of_ble_eq_true rfl) dX1_trailer_126 ?_
              refine A_aload_n Γ dX1_trailer_129 0 rfl ?_
              refine A_dup Γ dX1_trailer_130 rfl ?_
              refine g1_16 Γ Ξ dX1_trailer_131 ?_
              refine A_iconst (v := 1) Γ dX1_trailer_134 (by decide) ?_
              refine A_iadd Γ dX1_trailer_135 ?_
              refine p1_16 Γ Ξ dX1_trailer_136 ?_
              refine A_aload_n Γ dX1_trailer_139 0 rfl ?_
              refine g1_16 Γ Ξ dX1_trailer_140 ?_
              refine A_iconst (v := 1) Γ dX1_trailer_143 (by decide) ?_
              refine A_isub Γ dX1_trailer_144 ?_
              obtain ⟨rfl, rfl⟩ := inj2 h
              exact hret _ _ dX1_trailer_145
            refine A_icmp_ne (t := 116) Γ dX1_trailer_108 (by decide) (fun c => ?_) (fun c => ?_)
            · replace eJ17 := it_f c eJ17
              refine A_iconst (v := 5) Γ dX1_trailer_116 (by decide) ?_
              obtain rfl := inj1 eJ17
              exact A_sub [0, 2] rfl hJJ17
            · replace eJ17 := it_t c eJ17
              refine A_bipush (v := (-18)) Γ dX1_trailer_111 (by decide) ?_
              refine A_goto (t := 117) Γ dX1_trailer_113 (by decide) ?_
              obtain rfl := inj1 eJ17
              exact A_sub [0, 2] rfl hJJ17
          · replace h := it_t c h
            refine A_bipush (v := (-2)) Γ dX1_trailer_43 (by decide) ?_
            obtain ⟨rfl, rfl⟩ := inj2 h
            exact hret _ _ dX1_trailer_45
      · replace h := it_t c h
        refine A_iconst (v := (-1)) Γ dX1_trailer_23 (by decide) ?_
        obtain ⟨rfl, rfl⟩ := inj2 h
        exact hret _ _ dX1_trailer_24
theorem mtX1_trailer (l : Launch) (X : Xw) {σ σ' : St} {a1 : Int32} {a2 : Int32} {a3 : Int32} {r : Int32} (h : m_trailer σ a1 a2 a3 = some (r, σ')) : MetZ 1 l X yX1_trailer cX1_trailer 4 (some .int) 2 42 [.ref (xo X), .int a1, .int a2, .int a3] σ (some (.int r)) σ' := MetZ.ofAt (by decide) (Nat.le_of_ble_eq_true rfl) (fun G _ Γ Ξ hR hret => wkX1_trailer Γ Ξ hR h hret)

set_option maxHeartbeats 4000000 in
set_option maxRecDepth 100000 in
theorem wkX1_trailerTells {G : Gx} {X : Xw} {σ : St} (Γ : Ok G RX1 cX1_trailerTells 3) (Ξ : OkX 1 G X) (hRm : Rm G 0 0) {a1 : Int32} {a2 : Int32} {r : Int32} (h : m_trailerTells σ a1 a2 = some r) (hret : ∀ (pc : Nat) (lv : List (Nat × Value)), retIs cX1_trailerTells (some .int) (some (.int r)) pc → At G 3 σ lv [.int r] pc) : At G 3 σ [(0, .ref (xo X)), (1, .int a1), (2, .int a2)] [] 0 := by
  rw [m_trailerTells] at h
  refine A_iload_n Γ dX1_trailerTells_0 2 rfl ?_
  by_cases c0 : a2 = 0
  · replace h := it_t c0 h
    refine A_tableIn (t := 44) (off := 43) Γ dX1_trailerTells_1 (by rw [c0]; decide) (by rw [c0]; decide) (by rw [c0]; rfl) (by decide) ?_
    refine A_aload_n Γ dX1_trailerTells_44 0 rfl ?_
    refine g1_17 Γ Ξ dX1_trailerTells_45 ?_
    refine A_iload_n Γ dX1_trailerTells_48 1 rfl ?_
    replace h := b1 h
    obtain ⟨v1, e2, h⟩ := h
    refine r1_17 Γ Ξ e2 dX1_trailerTells_49 ?_
    obtain rfl := inj1 h
    exact hret _ _ dX1_trailerTells_50
  replace h := it_f c0 h
  by_cases c1 : a2 = 1
  · replace h := it_t c1 h
    refine A_tableIn (t := 51) (off := 50) Γ dX1_trailerTells_1 (by rw [c1]; decide) (by rw [c1]; decide) (by rw [c1]; rfl) (by decide) ?_
    refine A_aload_n Γ dX1_trailerTells_51 0 rfl ?_
    refine g1_18 Γ Ξ dX1_trailerTells_52 ?_
    refine A_iload_n Γ dX1_trailerTells_55 1 rfl ?_
    replace h := b1 h
    obtain ⟨v3, e4, h⟩ := h
    refine r1_18 Γ Ξ e4 dX1_trailerTells_56 ?_
    obtain rfl := inj1 h
    exact hret _ _ dX1_trailerTells_57
  replace h := it_f c1 h
  by_cases c2 : a2 = 2
  · replace h := it_t c2 h
    refine A_tableIn (t := 58) (off := 57) Γ dX1_trailerTells_1 (by rw [c2]; decide) (by rw [c2]; decide) (by rw [c2]; rfl) (by decide) ?_
    refine A_aload_n Γ dX1_trailerTells_58 0 rfl ?_
    refine g1_19 Γ Ξ dX1_trailerTells_59 ?_
    refine A_iload_n Γ dX1_trailerTells_62 1 rfl ?_
    replace h := b1 h
    obtain ⟨v5, e6, h⟩ := h
    refine r1_19 Γ Ξ e6 dX1_trailerTells_63 ?_
    obtain rfl := inj1 h
    exact hret _ _ dX1_trailerTells_64
  replace h := it_f c2 h
  by_cases c3 : a2 = 3
  · replace h := it_t c3 h
    refine A_tableIn (t := 65) (off := 64) Γ dX1_trailerTells_1 (by rw [c3]; decide) (by rw [c3]; decide) (by rw [c3]; rfl) (by decide) ?_
    refine A_aload_n Γ dX1_trailerTells_65 0 rfl ?_
    refine g1_20 Γ Ξ dX1_trailerTells_66 ?_
    refine A_iload_n Γ dX1_trailerTells_69 1 rfl ?_
    replace h := b1 h
    obtain ⟨v7, e8, h⟩ := h
    refine r1_20 Γ Ξ e8 dX1_trailerTells_70 ?_
    replace h := b1 h
    obtain ⟨x10, eJ9, h⟩ := h
    have hJJ9 : At G 3 σ [] [.int x10] 79 := by
      obtain rfl := inj1 h
      exact hret _ _ dX1_trailerTells_79
    refine A_if_eq (t := 78) Γ dX1_trailerTells_71 (by decide) (fun c => ?_) (fun c => ?_)
    · replace eJ9 := it_t c eJ9
      refine A_iconst (v := 0) Γ dX1_trailerTells_78 (by decide) ?_
      obtain rfl := inj1 eJ9
      exact A_sub [] rfl hJJ9
    · replace eJ9 := it_f c eJ9
      refine A_iconst (v := 1) Γ dX1_trailerTells_74 (by decide) ?_
      refine A_goto (t := 79) Γ dX1_trailerTells_75 (by decide) ?_
      obtain rfl := inj1 eJ9
      exact A_sub [] rfl hJJ9
  replace h := it_f c3 h
  by_cases c4 : a2 = 4
  · replace h := it_t c4 h
    refine A_tableIn (t := 80) (off := 79) Γ dX1_trailerTells_1 (by rw [c4]; decide) (by rw [c4]; decide) (by rw [c4]; rfl) (by decide) ?_
    refine A_aload_n Γ dX1_trailerTells_80 0 rfl ?_
    refine g1_21 Γ Ξ dX1_trailerTells_81 ?_
    refine A_iload_n Γ dX1_trailerTells_84 1 rfl ?_
    replace h := b1 h
    obtain ⟨v11, e12, h⟩ := h
    refine r1_21 Γ Ξ e12 dX1_trailerTells_85 ?_
    obtain rfl := inj1 h
    exact hret _ _ dX1_trailerTells_86
  replace h := it_f c4 h
  by_cases c5 : a2 = 5
  · replace h := it_t c5 h
    refine A_tableIn (t := 87) (off := 86) Γ dX1_trailerTells_1 (by rw [c5]; decide) (by rw [c5]; decide) (by rw [c5]; rfl) (by decide) ?_
    refine A_aload_n Γ dX1_trailerTells_87 0 rfl ?_
    refine g1_22 Γ Ξ dX1_trailerTells_88 ?_
    refine A_iload_n Γ dX1_trailerTells_91 1 rfl ?_
    replace h := b1 h
    obtain ⟨v13, e14, h⟩ := h
    refine r1_22 Γ Ξ e14 dX1_trailerTells_92 ?_
    obtain rfl := inj1 h
    exact hret _ _ dX1_trailerTells_93
  replace h := it_f c5 h
  by_cases c6 : a2 = 6
  · replace h := it_t c6 h
    refine A_tableIn (t := 94) (off := 93) Γ dX1_trailerTells_1 (by rw [c6]; decide) (by rw [c6]; decide) (by rw [c6]; rfl) (by decide) ?_
    refine A_aload_n Γ dX1_trailerTells_94 0 rfl ?_
    refine g1_23 Γ Ξ dX1_trailerTells_95 ?_
    refine A_iload_n Γ dX1_trailerTells_98 1 rfl ?_
    replace h := b1 h
    obtain ⟨v15, e16, h⟩ := h
    refine r1_23 Γ Ξ e16 dX1_trailerTells_99 ?_
    obtain rfl := inj1 h
    exact hret _ _ dX1_trailerTells_100
  replace h := it_f c6 h
  refine A_tableOut (t := 101) Γ dX1_trailerTells_1 (tb_out (n := 7) (by decide) (fun j hj => by match j, hj with | 0, _ => exact c0 | 1, _ => exact c1 | 2, _ => exact c2 | 3, _ => exact c3 | 4, _ => exact c4 | 5, _ => exact c5 | 6, _ => exact c6)) (by decide) ?_
  refine A_aload_n Γ dX1_trailerTells_101 0 rfl ?_
  refine g1_26 Γ Ξ dX1_trailerTells_102 ?_
  refine A_iload_n Γ dX1_trailerTells_105 1 rfl ?_
  replace h := b1 h
  obtain ⟨v17, e18, h⟩ := h
  refine r1_26 Γ Ξ e18 dX1_trailerTells_106 ?_
  replace h := b1 h
  obtain ⟨x20, eJ19, h⟩ := h
  have hJJ19 : At G 3 σ [] [.int x20] 115 := by
    obtain rfl := inj1 h
    exact hret _ _ dX1_trailerTells_115
  refine A_if_eq (t := 114) Γ dX1_trailerTells_107 (by decide) (fun c => ?_) (fun c => ?_)
  · replace eJ19 := it_t c eJ19
    refine A_iconst (v := 0) Γ dX1_trailerTells_114 (by decide) ?_
    obtain rfl := inj1 eJ19
    exact A_sub [] rfl hJJ19
  · replace eJ19 := it_f c eJ19
    refine A_iconst (v := 1) Γ dX1_trailerTells_110 (by decide) ?_
    refine A_goto (t := 115) Γ dX1_trailerTells_111 (by decide) ?_
    obtain rfl := inj1 eJ19
    exact A_sub [] rfl hJJ19
theorem mtX1_trailerTells (l : Launch) (X : Xw) {σ : St} {a1 : Int32} {a2 : Int32} {r : Int32} (h : m_trailerTells σ a1 a2 = some r) : MetZ 1 l X yX1_trailerTells cX1_trailerTells 3 (some .int) 0 0 [.ref (xo X), .int a1, .int a2] σ (some (.int r)) σ := MetZ.ofAt (by decide) (Nat.le_of_ble_eq_true rfl) (fun G _ Γ Ξ hR hret => wkX1_trailerTells Γ Ξ hR h hret)
theorem kX1_X1trailerTells {G : Gx} {X : Xw} {cc : ByteArray} {nL pc F LO : Nat} {σ : St} {lv : List (Nat × Value)} {st : List Value} (Γ : Ok G RX1 cc nL) (Ξ : OkX 1 G X) {a1 : Int32} {a2 : Int32} {r : Int32} (hRm : Rm G F LO) (hf : 0 + 1 ≤ F) (hlo : 8 + (3 + 11) + 0 ≤ LO) (h : m_trailerTells σ a1 a2 = some r) (hW : (st.map fun v => v.category).sum ≤ 8) (d : decode cc pc = .ok (.invokevirtual 243, 3)) (kk : At G nL σ lv (.int r :: st) (pc + 3)) : At G nL σ lv (.int a2 :: .int a1 :: .ref (xo X) :: st) pc := A_callV Γ Ξ rfl rfl (mtX1_trailerTells (gl G) X h) (lw_V q1391 q1393 qs39 q64 q1394) (n := 2) (by decide +kernel) (rm_ok hRm hf hlo) (rm_k hRm) rfl rfl hW d kk
set_option maxHeartbeats 4000000 in
set_option maxRecDepth 100000 in
theorem wkX1_told {G : Gx} {X : Xw} {σ σ' : St} (Γ : Ok G RX1 cX1_told 3) (Ξ : OkX 1 G X) (hRm : Rm G 2 43) {a1 : Int32} {a2 : Int32} {r : Int32} (h : m_told σ a1 a2 = some (r, σ')) (hret : ∀ (pc : Nat) (lv : List (Nat × Value)), retIs cX1_told (some .int) (some (.int r)) pc → At G 3 σ' lv [.int r] pc) : At G 3 σ [(0, .ref (xo X)), (1, .int a1), (2, .int a2)] [] 0 := by
  rw [m_told] at h
  refine A_aload_n Γ dX1_told_0 0 rfl ?_
  refine A_iload_n Γ dX1_told_1 1 rfl ?_
  replace h := b1 h
  obtain ⟨v2, e1, h⟩ := h
  refine kX1_X1isTrailer Γ Ξ hRm (by decide) (by decide) e1 (Nat.le_of_ble_eq_true rfl) dX1_told_2 ?_
  replace h := b2 h
  obtain ⟨σ4, x5, eJ3, h⟩ := h
  have hJJ3 : At G 3 σ4 [] [.int x5] 33 := by
    obtain ⟨rfl, rfl⟩ := inj2 h
    exact hret _ _ dX1_told_33
  refine A_if_eq (t := 32) Γ dX1_told_5 (by decide) (fun c => ?_) (fun c => ?_)
  · replace eJ3 := it_t c eJ3
    refine A_iconst (v := (-1)) Γ dX1_told_32 (by decide) ?_
    obtain ⟨rfl, rfl⟩ := inj2 eJ3
    exact A_sub [] rfl hJJ3
  · replace eJ3 := it_f c eJ3
    refine A_iload_n Γ dX1_told_8 2 rfl ?_
    refine A_iconst (v := 0) Γ dX1_told_9 (by decide) ?_
    refine A_bipush (v := 7) Γ dX1_told_10 (by decide) ?_
    replace eJ3 := b1 eJ3
    obtain ⟨v7, e6, eJ3⟩ := eJ3
    refine kX1_X1in Γ (kpX Ξ) hRm (by decide) (by decide) e6 (Nat.le_of_ble_eq_true rfl) dX1_told_12 ?_
    refine A_if_eq (t := 32) Γ dX1_told_15 (by decide) (fun c => ?_) (fun c => ?_)
    · replace eJ3 := it_t c eJ3
      refine A_iconst (v := (-1)) Γ dX1_told_32 (by decide) ?_
      obtain ⟨rfl, rfl⟩ := inj2 eJ3
      exact A_sub [] rfl hJJ3
    · replace eJ3 := it_f c eJ3
      refine A_aload_n Γ dX1_told_18 0 rfl ?_
      refine A_aload_n Γ dX1_told_19 0 rfl ?_
      refine A_iload_n Γ dX1_told_20 1 rfl ?_
      refine A_iload_n Γ dX1_told_21 2 rfl ?_
      replace eJ3 := b1 eJ3
      obtain ⟨v9, e8, eJ3⟩ := eJ3
      refine kX1_X1trailerTells Γ Ξ hRm (by decide) (by decide) e8 (Nat.le_of_ble_eq_true rfl) dX1_told_22 ?_
      refine A_iconst (v := 1) Γ dX1_told_25 (by decide) ?_
      replace eJ3 := b2 eJ3
      obtain ⟨v11, σ12, e10, eJ3⟩ := eJ3
      refine kX1_X1ask Γ Ξ hRm (by decide) (by decide) e10 (Nat.le_of_ble_eq_true rfl) dX1_told_26 ?_
      refine A_goto (t := 33) Γ dX1_told_29 (by decide) ?_
      obtain ⟨rfl, rfl⟩ := inj2 eJ3
      exact A_sub [] rfl hJJ3
theorem mtX1_told (l : Launch) (X : Xw) {σ σ' : St} {a1 : Int32} {a2 : Int32} {r : Int32} (h : m_told σ a1 a2 = some (r, σ')) : MetZ 1 l X yX1_told cX1_told 3 (some .int) 2 43 [.ref (xo X), .int a1, .int a2] σ (some (.int r)) σ' := MetZ.ofAt (by decide) (Nat.le_of_ble_eq_true rfl) (fun G _ Γ Ξ hR hret => wkX1_told Γ Ξ hR h hret)

set_option maxHeartbeats 4000000 in
set_option maxRecDepth 100000 in
theorem wkX1_isCold {G : Gx} {X : Xw} {σ : St} (Γ : Ok G RX1 cX1_isCold 2) (Ξ : OkX 1 G X) (hRm : Rm G 0 0) {a1 : Int32} {r : Int32} (h : m_isCold σ a1 = some r) (hret : ∀ (pc : Nat) (lv : List (Nat × Value)), retIs cX1_isCold (some .boolean) (some (.int r)) pc → At G 2 σ lv [.int r] pc) : At G 2 σ [(0, .ref (xo X)), (1, .int a1)] [] 0 := by
  rw [m_isCold] at h
  refine A_aload_n Γ dX1_isCold_0 0 rfl ?_
  refine g1_17 Γ Ξ dX1_isCold_1 ?_
  refine A_iload_n Γ dX1_isCold_4 1 rfl ?_
  replace h := b1 h
  obtain ⟨v1, e2, h⟩ := h
  refine r1_17 Γ Ξ e2 dX1_isCold_5 ?_
  refine A_iconst (v := 1) Γ dX1_isCold_6 (by decide) ?_
  replace h := b1 h
  obtain ⟨x4, eJ3, h⟩ := h
  have hJJ3 : At G 2 σ [] [.int x4] 25 := by
    replace h := b1 h
    obtain ⟨v8, e7, h⟩ := h
    obtain ⟨rfl, hze7⟩ := bZ_in e7
    obtain rfl := inj1 h
    exact hret _ _ ⟨dX1_isCold_25, hze7⟩
  refine A_icmp_eq (t := 20) Γ dX1_isCold_7 (by decide) (fun c => ?_) (fun c => ?_)
  · replace eJ3 := it_t c eJ3
    refine A_iconst (v := 1) Γ dX1_isCold_20 (by decide) ?_
    refine A_goto (t := 25) Γ dX1_isCold_21 (by decide) ?_
    obtain rfl := inj1 eJ3
    exact A_sub [] rfl hJJ3
  · replace eJ3 := it_f c eJ3
    refine A_aload_n Γ dX1_isCold_10 0 rfl ?_
    refine g1_17 Γ Ξ dX1_isCold_11 ?_
    refine A_iload_n Γ dX1_isCold_14 1 rfl ?_
    replace eJ3 := b1 eJ3
    obtain ⟨v5, e6, eJ3⟩ := eJ3
    refine r1_17 Γ Ξ e6 dX1_isCold_15 ?_
    refine A_iconst (v := 3) Γ dX1_isCold_16 (by decide) ?_
    refine A_icmp_ne (t := 24) Γ dX1_isCold_17 (by decide) (fun c => ?_) (fun c => ?_)
    · replace eJ3 := it_f c eJ3
      refine A_iconst (v := 0) Γ dX1_isCold_24 (by decide) ?_
      obtain rfl := inj1 eJ3
      exact A_sub [] rfl hJJ3
    · replace eJ3 := it_t c eJ3
      refine A_iconst (v := 1) Γ dX1_isCold_20 (by decide) ?_
      refine A_goto (t := 25) Γ dX1_isCold_21 (by decide) ?_
      obtain rfl := inj1 eJ3
      exact A_sub [] rfl hJJ3
theorem mtX1_isCold (l : Launch) (X : Xw) {σ : St} {a1 : Int32} {r : Int32} (h : m_isCold σ a1 = some r) : MetZ 1 l X yX1_isCold cX1_isCold 2 (some .boolean) 0 0 [.ref (xo X), .int a1] σ (some (.int r)) σ := MetZ.ofAt (by decide) (Nat.le_of_ble_eq_true rfl) (fun G _ Γ Ξ hR hret => wkX1_isCold Γ Ξ hR h hret)
theorem kX1_X1isCold {G : Gx} {X : Xw} {cc : ByteArray} {nL pc F LO : Nat} {σ : St} {lv : List (Nat × Value)} {st : List Value} (Γ : Ok G RX1 cc nL) (Ξ : OkX 1 G X) {a1 : Int32} {r : Int32} (hRm : Rm G F LO) (hf : 0 + 1 ≤ F) (hlo : 8 + (2 + 11) + 0 ≤ LO) (h : m_isCold σ a1 = some r) (hW : (st.map fun v => v.category).sum ≤ 8) (d : decode cc pc = .ok (.invokevirtual 249, 3)) (kk : At G nL σ lv (.int r :: st) (pc + 3)) : At G nL σ lv (.int a1 :: .ref (xo X) :: st) pc := A_callV Γ Ξ rfl rfl (mtX1_isCold (gl G) X h) (lw_V q1403 q1405 qs41 q64 q1406) (n := 1) (by decide +kernel) (rm_ok hRm hf hlo) (rm_k hRm) rfl rfl hW d kk
set_option maxHeartbeats 4000000 in
set_option maxRecDepth 100000 in
theorem wkX1_entryFrom {G : Gx} {X : Xw} {σ : St} (Γ : Ok G RX1 cX1_entryFrom 4) (Ξ : OkX 1 G X) (hRm : Rm G 0 0) {a1 : Int32} {a2 : Int32} {r : Int32} (h : m_entryFrom σ a1 a2 = some r) (hret : ∀ (pc : Nat) (lv : List (Nat × Value)), retIs cX1_entryFrom (some .int) (some (.int r)) pc → At G 4 σ lv [.int r] pc) : At G 4 σ [(0, .ref (xo X)), (1, .int a1), (2, .int a2)] [] 0 := by
  rw [m_entryFrom] at h
  refine A_iload_n Γ dX1_entryFrom_0 2 rfl ?_
  refine A_istore_n (lv' := [(3, .int a2), (0, .ref (xo X)), (1, .int a1), (2, .int a2)]) Γ dX1_entryFrom_1 (by decide) rfl ?_
  replace h := b1 h
  obtain ⟨x3, eLL1, h⟩ := h
  have hXL1 : At G 4 σ [(0, .ref (xo X)), (3, .int x3)] [] 26 := by
    refine A_iload_n Γ dX1_entryFrom_26 1 rfl ?_
    refine A_aload_n Γ dX1_entryFrom_27 0 rfl ?_
    refine g1_34 Γ Ξ dX1_entryFrom_28 ?_
    replace h := b1 h
    obtain ⟨x7, eJ6, h⟩ := h
    have hJJ6 : At G 4 σ [] [.int x7] 40 := by
      obtain rfl := inj1 h
      exact hret _ _ dX1_entryFrom_40
    refine A_icmp_ge (t := 38) Γ dX1_entryFrom_31 (by decide) (fun c => ?_) (fun c => ?_)
    · replace eJ6 := it_t c eJ6
      refine A_bipush (v := (-9)) Γ dX1_entryFrom_38 (by decide) ?_
      obtain rfl := inj1 eJ6
      exact A_sub [] rfl hJJ6
    · replace eJ6 := it_f c eJ6
      refine A_iload_n Γ dX1_entryFrom_34 1 rfl ?_
      refine A_goto (t := 40) Γ dX1_entryFrom_35 (by decide) ?_
      obtain rfl := inj1 eJ6
      exact A_sub [] rfl hJJ6
  replace eLL1 := lq1_ex eLL1
  obtain ⟨nL1, eLL1⟩ := eLL1
  have hLL1 : ∀ (nL1 : Nat) (x2 : Int32), lpf1 (m_entryFrom_L1 σ a1) nL1 x2 = some x3 → At G 4 σ [(0, .ref (xo X)), (1, .int a1), (3, .int x2)] [] 2 := by
    intro nL1
    induction nL1 with
    | zero => intro x2 eL1; exact (lpf1_0 eL1).elim
    | succ nL1 ihL1 =>
      intro x2 eL1
      replace eL1 := lpf1_s eL1
      obtain ⟨qL1, eL1, hqL1⟩ := eL1
      rw [m_entryFrom_L1] at eL1
      refine A_iload_n Γ dX1_entryFrom_2 2 rfl ?_
      refine A_aload_n Γ dX1_entryFrom_3 0 rfl ?_
      refine g1_34 Γ Ξ dX1_entryFrom_4 ?_
      refine A_icmp_ge (t := 26) Γ dX1_entryFrom_7 (by decide) (fun c => ?_) (fun c => ?_)
      · replace eL1 := it_t c eL1
        obtain rfl := pr1 (lpx1 eL1 hqL1)
        exact A_sub [0, 2] rfl hXL1
      · replace eL1 := it_f c eL1
        refine A_aload_n Γ dX1_entryFrom_10 0 rfl ?_
        refine g1_35 Γ Ξ dX1_entryFrom_11 ?_
        refine A_iload_n Γ dX1_entryFrom_14 2 rfl ?_
        replace eL1 := b1 eL1
        obtain ⟨v4, e5, eL1⟩ := eL1
        refine r1_35 Γ Ξ e5 dX1_entryFrom_15 ?_
        refine A_iload_n Γ dX1_entryFrom_16 1 rfl ?_
        refine A_icmp_eq (t := 26) Γ dX1_entryFrom_17 (by decide) (fun c => ?_) (fun c => ?_)
        · replace eL1 := it_t c eL1
          obtain rfl := pr1 (lpx1 eL1 hqL1)
          exact A_sub [0, 2] rfl hXL1
        · replace eL1 := it_f c eL1
          refine A_iinc (v := x2 + 1) (lv' := [(3, .int (x2 + 1)), (0, .ref (xo X)), (1, .int a1)]) Γ dX1_entryFrom_20 2 rfl rfl (by decide) rfl ?_
          refine A_goto (t := 2) Γ dX1_entryFrom_23 (by decide) ?_
          exact A_sub [1, 2, 0] rfl (ihL1 _ (lpc1 eL1 hqL1))
  exact A_sub [1, 2, 0] rfl (hLL1 _ _ eLL1)
theorem mtX1_entryFrom (l : Launch) (X : Xw) {σ : St} {a1 : Int32} {a2 : Int32} {r : Int32} (h : m_entryFrom σ a1 a2 = some r) : MetZ 1 l X yX1_entryFrom cX1_entryFrom 4 (some .int) 0 0 [.ref (xo X), .int a1, .int a2] σ (some (.int r)) σ := MetZ.ofAt (by decide) (Nat.le_of_ble_eq_true rfl) (fun G _ Γ Ξ hR hret => wkX1_entryFrom Γ Ξ hR h hret)
theorem kX1_X1entryFrom {G : Gx} {X : Xw} {cc : ByteArray} {nL pc F LO : Nat} {σ : St} {lv : List (Nat × Value)} {st : List Value} (Γ : Ok G RX1 cc nL) (Ξ : OkX 1 G X) {a1 : Int32} {a2 : Int32} {r : Int32} (hRm : Rm G F LO) (hf : 0 + 1 ≤ F) (hlo : 8 + (4 + 11) + 0 ≤ LO) (h : m_entryFrom σ a1 a2 = some r) (hW : (st.map fun v => v.category).sum ≤ 8) (d : decode cc pc = .ok (.invokevirtual 255, 3)) (kk : At G nL σ lv (.int r :: st) (pc + 3)) : At G nL σ lv (.int a2 :: .int a1 :: .ref (xo X) :: st) pc := A_callV Γ Ξ rfl rfl (mtX1_entryFrom (gl G) X h) (lw_V q1410 q1412 qs42 q64 q1413) (n := 2) (by decide +kernel) (rm_ok hRm hf hlo) (rm_k hRm) rfl rfl hW d kk
set_option maxHeartbeats 4000000 in
set_option maxRecDepth 100000 in
theorem wkX1_mark {G : Gx} {X : Xw} {σ σ' : St} (Γ : Ok G RX1 cX1_mark 3) (Ξ : OkX 1 G X) (hRm : Rm G 2 43) {a1 : Int32} {a2 : Int32} {r : Int32} (h : m_mark σ a1 a2 = some (r, σ')) (hret : ∀ (pc : Nat) (lv : List (Nat × Value)), retIs cX1_mark (some .int) (some (.int r)) pc → At G 3 σ' lv [.int r] pc) : At G 3 σ [(0, .ref (xo X)), (1, .int a1), (2, .int a2)] [] 0 := by
  rw [m_mark] at h
  refine A_aload_n Γ dX1_mark_0 0 rfl ?_
  refine A_iload_n Γ dX1_mark_1 1 rfl ?_
  replace h := b1 h
  obtain ⟨v2, e1, h⟩ := h
  refine kX1_X1isTrailer Γ Ξ hRm (by decide) (by decide) e1 (Nat.le_of_ble_eq_true rfl) dX1_mark_2 ?_
  refine A_if_eq (t := 17) Γ dX1_mark_5 (by decide) (fun c => ?_) (fun c => ?_)
  · replace h := it_t c h
    refine A_iconst (v := (-1)) Γ dX1_mark_17 (by decide) ?_
    obtain ⟨rfl, rfl⟩ := inj2 h
    exact hret _ _ dX1_mark_18
  · replace h := it_f c h
    refine A_iload_n Γ dX1_mark_8 2 rfl ?_
    refine A_iconst (v := 1) Γ dX1_mark_9 (by decide) ?_
    refine A_iconst (v := 3) Γ dX1_mark_10 (by decide) ?_
    replace h := b1 h
    obtain ⟨v4, e3, h⟩ := h
    refine kX1_X1in Γ (kpX Ξ) hRm (by decide) (by decide) e3 (Nat.le_of_ble_eq_true rfl) dX1_mark_11 ?_
    refine A_if_ne (t := 19) Γ dX1_mark_14 (by decide) (fun c => ?_) (fun c => ?_)
    · replace h := it_f c h
      refine A_aload_n Γ dX1_mark_19 0 rfl ?_
      refine g1_17 Γ Ξ dX1_mark_20 ?_
      refine A_iload_n Γ dX1_mark_23 1 rfl ?_
      replace h := b1 h
      obtain ⟨v5, e6, h⟩ := h
      refine r1_17 Γ Ξ e6 dX1_mark_24 ?_
      refine A_iload_n Γ dX1_mark_25 2 rfl ?_
      have hKK7 : ∀ (σ8 : St), m_mark_K7 a1 a2 σ8 = some (r, σ') → At G 3 σ8 [(0, .ref (xo X)), (1, .int a1), (2, .int a2)] [] 48 := by
        clear h
        intro σ8 h
        rw [m_mark_K7] at h
        refine A_iload_n Γ dX1_mark_48 2 rfl ?_
        refine A_iconst (v := 1) Γ dX1_mark_49 (by decide) ?_
        replace h := b1 h
        obtain ⟨x10, eJ9, h⟩ := h
        have hJJ9 : At G 3 σ8 [] [.int x10] 98 := by
          obtain ⟨rfl, rfl⟩ := inj2 h
          exact hret _ _ dX1_mark_98
        refine A_icmp_ne (t := 62) Γ dX1_mark_50 (by decide) (fun c => ?_) (fun c => ?_)
        · replace eJ9 := it_f c eJ9
          refine A_iload_n Γ dX1_mark_62 2 rfl ?_
          refine A_iconst (v := 2) Γ dX1_mark_63 (by decide) ?_
          refine A_icmp_ne (t := 92) Γ dX1_mark_64 (by decide) (fun c => ?_) (fun c => ?_)
          · replace eJ9 := it_f c eJ9
            refine A_aload_n Γ dX1_mark_92 0 rfl ?_
            refine g1_28 Γ Ξ dX1_mark_93 ?_
            refine A_iload_n Γ dX1_mark_96 1 rfl ?_
            replace eJ9 := b1 eJ9
            obtain ⟨v11, e12, eJ9⟩ := eJ9
            refine r1_28 Γ Ξ e12 dX1_mark_97 ?_
            obtain rfl := inj1 eJ9
            exact A_sub [] rfl hJJ9
          · replace eJ9 := it_t c eJ9
            refine A_aload_n Γ dX1_mark_67 0 rfl ?_
            refine g1_5 Γ Ξ dX1_mark_68 ?_
            replace eJ9 := b1 eJ9
            obtain ⟨v14, e13, eJ9⟩ := eJ9
            refine kX1_X1day Γ (kpX Ξ) hRm (by decide) (by decide) e13 (Nat.le_of_ble_eq_true rfl) dX1_mark_71 ?_
            refine A_aload_n Γ dX1_mark_74 0 rfl ?_
            refine g1_37 Γ Ξ dX1_mark_75 ?_
            refine A_aload_n Γ dX1_mark_78 0 rfl ?_
            refine A_iload_n Γ dX1_mark_79 1 rfl ?_
            refine A_iconst (v := 0) Γ dX1_mark_80 (by decide) ?_
            replace eJ9 := b1 eJ9
            obtain ⟨v16, e15, eJ9⟩ := eJ9
            refine kX1_X1entryFrom Γ Ξ hRm (by decide) (by decide) e15 (Nat.le_of_ble_eq_true rfl) dX1_mark_81 ?_
            replace eJ9 := b1 eJ9
            obtain ⟨v17, e18, eJ9⟩ := eJ9
            refine r1_37 Γ Ξ e18 dX1_mark_84 ?_
            replace eJ9 := b1 eJ9
            obtain ⟨v20, e19, eJ9⟩ := eJ9
            refine kX1_X1day Γ (kpX Ξ) hRm (by decide) (by decide) e19 (Nat.le_of_ble_eq_true rfl) dX1_mark_85 ?_
            refine A_isub Γ dX1_mark_88 ?_
            refine A_goto (t := 98) Γ dX1_mark_89 (by decide) ?_
            obtain rfl := inj1 eJ9
            exact A_sub [] rfl hJJ9
        · replace eJ9 := it_t c eJ9
          refine A_aload_n Γ dX1_mark_53 0 rfl ?_
          refine g1_27 Γ Ξ dX1_mark_54 ?_
          refine A_iload_n Γ dX1_mark_57 1 rfl ?_
          replace eJ9 := b1 eJ9
          obtain ⟨v21, e22, eJ9⟩ := eJ9
          refine r1_27 Γ Ξ e22 dX1_mark_58 ?_
          refine A_goto (t := 98) Γ dX1_mark_59 (by decide) ?_
          obtain rfl := inj1 eJ9
          exact A_sub [] rfl hJJ9
      refine A_icmp_eq (t := 48) Γ dX1_mark_26 (by decide) (fun c => ?_) (fun c => ?_)
      · replace h := it_t c h
        exact A_sub [0, 1, 2] rfl (hKK7 _ h)
      · replace h := it_f c h
        refine A_iload_n Γ dX1_mark_29 2 rfl ?_
        refine A_iconst (v := 1) Γ dX1_mark_30 (by decide) ?_
        refine A_icmp_ne (t := 42) Γ dX1_mark_31 (by decide) (fun c => ?_) (fun c => ?_)
        · replace h := it_f c h
          refine A_aload_n Γ dX1_mark_42 0 rfl ?_
          refine A_iconst (v := 3) Γ dX1_mark_43 (by decide) ?_
          replace h := b2 h
          obtain ⟨v24, σ25, e23, h⟩ := h
          refine kX1_X1meets Γ Ξ hRm (by decide) (by decide) e23 (Nat.le_of_ble_eq_true rfl) dX1_mark_44 ?_
          obtain ⟨rfl, rfl⟩ := inj2 h
          exact hret _ _ dX1_mark_47
        · replace h := it_t c h
          refine A_aload_n Γ dX1_mark_34 0 rfl ?_
          refine A_iload_n Γ dX1_mark_35 1 rfl ?_
          replace h := b1 h
          obtain ⟨v27, e26, h⟩ := h
          refine kX1_X1isCold Γ Ξ hRm (by decide) (by decide) e26 (Nat.le_of_ble_eq_true rfl) dX1_mark_36 ?_
          refine A_if_ne (t := 48) Γ dX1_mark_39 (by decide) (fun c => ?_) (fun c => ?_)
          · replace h := it_f c h
            exact A_sub [0, 1, 2] rfl (hKK7 _ h)
          · replace h := it_t c h
            refine A_aload_n Γ dX1_mark_42 0 rfl ?_
            refine A_iconst (v := 3) Γ dX1_mark_43 (by decide) ?_
            replace h := b2 h
            obtain ⟨v29, σ30, e28, h⟩ := h
            refine kX1_X1meets Γ Ξ hRm (by decide) (by decide) e28 (Nat.le_of_ble_eq_true rfl) dX1_mark_44 ?_
            obtain ⟨rfl, rfl⟩ := inj2 h
            exact hret _ _ dX1_mark_47
    · replace h := it_t c h
      refine A_iconst (v := (-1)) Γ dX1_mark_17 (by decide) ?_
      obtain ⟨rfl, rfl⟩ := inj2 h
      exact hret _ _ dX1_mark_18
theorem mtX1_mark (l : Launch) (X : Xw) {σ σ' : St} {a1 : Int32} {a2 : Int32} {r : Int32} (h : m_mark σ a1 a2 = some (r, σ')) : MetZ 1 l X yX1_mark cX1_mark 3 (some .int) 2 43 [.ref (xo X), .int a1, .int a2] σ (some (.int r)) σ' := MetZ.ofAt (by decide) (Nat.le_of_ble_eq_true rfl) (fun G _ Γ Ξ hR hret => wkX1_mark Γ Ξ hR h hret)

set_option maxHeartbeats 4000000 in
set_option maxRecDepth 100000 in
theorem wkX1_limit {G : Gx} {X : Xw} {σ σ' : St} (Γ : Ok G RX1 cX1_limit 3) (Ξ : OkX 1 G X) (hRm : Rm G 2 43) {a1 : Int32} {a2 : Int32} {r : Int32} (h : m_limit σ a1 a2 = some (r, σ')) (hret : ∀ (pc : Nat) (lv : List (Nat × Value)), retIs cX1_limit (some .int) (some (.int r)) pc → At G 3 σ' lv [.int r] pc) : At G 3 σ [(0, .ref (xo X)), (1, .int a1), (2, .int a2)] [] 0 := by
  rw [m_limit] at h
  refine A_aload_n Γ dX1_limit_0 0 rfl ?_
  refine A_iload_n Γ dX1_limit_1 1 rfl ?_
  replace h := b1 h
  obtain ⟨v2, e1, h⟩ := h
  refine kX1_X1isTrailer Γ Ξ hRm (by decide) (by decide) e1 (Nat.le_of_ble_eq_true rfl) dX1_limit_2 ?_
  refine A_if_eq (t := 19) Γ dX1_limit_5 (by decide) (fun c => ?_) (fun c => ?_)
  · replace h := it_t c h
    refine A_iconst (v := (-1)) Γ dX1_limit_19 (by decide) ?_
    obtain ⟨rfl, rfl⟩ := inj2 h
    exact hret _ _ dX1_limit_20
  · replace h := it_f c h
    refine A_iload_n Γ dX1_limit_8 2 rfl ?_
    refine A_bipush (v := (-50)) Γ dX1_limit_9 (by decide) ?_
    refine A_bipush (v := 50) Γ dX1_limit_11 (by decide) ?_
    replace h := b1 h
    obtain ⟨v4, e3, h⟩ := h
    refine kX1_X1in Γ (kpX Ξ) hRm (by decide) (by decide) e3 (Nat.le_of_ble_eq_true rfl) dX1_limit_13 ?_
    refine A_if_ne (t := 21) Γ dX1_limit_16 (by decide) (fun c => ?_) (fun c => ?_)
    · replace h := it_f c h
      refine A_aload_n Γ dX1_limit_21 0 rfl ?_
      refine A_iload_n Γ dX1_limit_22 1 rfl ?_
      replace h := b1 h
      obtain ⟨v6, e5, h⟩ := h
      refine kX1_X1isCold Γ Ξ hRm (by decide) (by decide) e5 (Nat.le_of_ble_eq_true rfl) dX1_limit_23 ?_
      refine A_if_ne (t := 35) Γ dX1_limit_26 (by decide) (fun c => ?_) (fun c => ?_)
      · replace h := it_f c h
        refine A_aload_n Γ dX1_limit_35 0 rfl ?_
        refine A_aload_n Γ dX1_limit_36 0 rfl ?_
        refine g1_27 Γ Ξ dX1_limit_37 ?_
        refine A_iload_n Γ dX1_limit_40 1 rfl ?_
        replace h := b1 h
        obtain ⟨v7, e8, h⟩ := h
        refine r1_27 Γ Ξ e8 dX1_limit_41 ?_
        refine p1_2 Γ Ξ dX1_limit_42 ?_
        refine A_aload_n Γ dX1_limit_45 0 rfl ?_
        refine g1_27 Γ Ξ dX1_limit_46 ?_
        refine A_iload_n Γ dX1_limit_49 1 rfl ?_
        refine A_iload_n Γ dX1_limit_50 2 rfl ?_
        replace h := b1 h
        obtain ⟨σ9, e10, h⟩ := h
        refine w1_27 Γ Ξ e10 dX1_limit_51 ?_
        refine A_iconst (v := 1) Γ dX1_limit_52 (by decide) ?_
        obtain ⟨rfl, rfl⟩ := inj2 h
        exact hret _ _ dX1_limit_53
      · replace h := it_t c h
        refine A_aload_n Γ dX1_limit_29 0 rfl ?_
        refine A_iconst (v := 3) Γ dX1_limit_30 (by decide) ?_
        replace h := b2 h
        obtain ⟨v12, σ13, e11, h⟩ := h
        refine kX1_X1meets Γ Ξ hRm (by decide) (by decide) e11 (Nat.le_of_ble_eq_true rfl) dX1_limit_31 ?_
        obtain ⟨rfl, rfl⟩ := inj2 h
        exact hret _ _ dX1_limit_34
    · replace h := it_t c h
      refine A_iconst (v := (-1)) Γ dX1_limit_19 (by decide) ?_
      obtain ⟨rfl, rfl⟩ := inj2 h
      exact hret _ _ dX1_limit_20
theorem mtX1_limit (l : Launch) (X : Xw) {σ σ' : St} {a1 : Int32} {a2 : Int32} {r : Int32} (h : m_limit σ a1 a2 = some (r, σ')) : MetZ 1 l X yX1_limit cX1_limit 3 (some .int) 2 43 [.ref (xo X), .int a1, .int a2] σ (some (.int r)) σ' := MetZ.ofAt (by decide) (Nat.le_of_ble_eq_true rfl) (fun G _ Γ Ξ hR hret => wkX1_limit Γ Ξ hR h hret)

set_option maxHeartbeats 4000000 in
set_option maxRecDepth 100000 in
theorem wkX1_isOnWay {G : Gx} {X : Xw} {σ : St} (Γ : Ok G RX1 cX1_isOnWay 2) (Ξ : OkX 1 G X) (hRm : Rm G 0 0) {a1 : Int32} {r : Int32} (h : m_isOnWay σ a1 = some r) (hret : ∀ (pc : Nat) (lv : List (Nat × Value)), retIs cX1_isOnWay (some .boolean) (some (.int r)) pc → At G 2 σ lv [.int r] pc) : At G 2 σ [(0, .ref (xo X)), (1, .int a1)] [] 0 := by
  rw [m_isOnWay] at h
  refine A_aload_n Γ dX1_isOnWay_0 0 rfl ?_
  refine g1_5 Γ Ξ dX1_isOnWay_1 ?_
  refine A_aload_n Γ dX1_isOnWay_4 0 rfl ?_
  refine g1_30 Γ Ξ dX1_isOnWay_5 ?_
  refine A_iload_n Γ dX1_isOnWay_8 1 rfl ?_
  replace h := b1 h
  obtain ⟨v1, e2, h⟩ := h
  refine r1_30 Γ Ξ e2 dX1_isOnWay_9 ?_
  replace h := b1 h
  obtain ⟨x4, eJ3, h⟩ := h
  have hJJ3 : At G 2 σ [] [.int x4] 18 := by
    replace h := b1 h
    obtain ⟨v6, e5, h⟩ := h
    obtain ⟨rfl, hze5⟩ := bZ_in e5
    obtain rfl := inj1 h
    exact hret _ _ ⟨dX1_isOnWay_18, hze5⟩
  refine A_icmp_ge (t := 17) Γ dX1_isOnWay_10 (by decide) (fun c => ?_) (fun c => ?_)
  · replace eJ3 := it_t c eJ3
    refine A_iconst (v := 0) Γ dX1_isOnWay_17 (by decide) ?_
    obtain rfl := inj1 eJ3
    exact A_sub [] rfl hJJ3
  · replace eJ3 := it_f c eJ3
    refine A_iconst (v := 1) Γ dX1_isOnWay_13 (by decide) ?_
    refine A_goto (t := 18) Γ dX1_isOnWay_14 (by decide) ?_
    obtain rfl := inj1 eJ3
    exact A_sub [] rfl hJJ3
theorem mtX1_isOnWay (l : Launch) (X : Xw) {σ : St} {a1 : Int32} {r : Int32} (h : m_isOnWay σ a1 = some r) : MetZ 1 l X yX1_isOnWay cX1_isOnWay 2 (some .boolean) 0 0 [.ref (xo X), .int a1] σ (some (.int r)) σ := MetZ.ofAt (by decide) (Nat.le_of_ble_eq_true rfl) (fun G _ Γ Ξ hR hret => wkX1_isOnWay Γ Ξ hR h hret)
theorem kX1_X1isOnWay {G : Gx} {X : Xw} {cc : ByteArray} {nL pc F LO : Nat} {σ : St} {lv : List (Nat × Value)} {st : List Value} (Γ : Ok G RX1 cc nL) (Ξ : OkX 1 G X) {a1 : Int32} {r : Int32} (hRm : Rm G F LO) (hf : 0 + 1 ≤ F) (hlo : 8 + (2 + 11) + 0 ≤ LO) (h : m_isOnWay σ a1 = some r) (hW : (st.map fun v => v.category).sum ≤ 8) (d : decode cc pc = .ok (.invokevirtual 261, 3)) (kk : At G nL σ lv (.int r :: st) (pc + 3)) : At G nL σ lv (.int a1 :: .ref (xo X) :: st) pc := A_callV Γ Ξ rfl rfl (mtX1_isOnWay (gl G) X h) (lw_V q1425 q1427 qs43 q64 q1428) (n := 1) (by decide +kernel) (rm_ok hRm hf hlo) (rm_k hRm) rfl rfl hW d kk
set_option maxHeartbeats 4000000 in
set_option maxRecDepth 100000 in
theorem wkX1_park {G : Gx} {X : Xw} {σ σ' : St} (Γ : Ok G RX1 cX1_park 3) (Ξ : OkX 1 G X) (hRm : Rm G 2 42) {a1 : Int32} {a2 : Int32} {r : Int32} (h : m_park σ a1 a2 = some (r, σ')) (hret : ∀ (pc : Nat) (lv : List (Nat × Value)), retIs cX1_park (some .int) (some (.int r)) pc → At G 3 σ' lv [.int r] pc) : At G 3 σ [(0, .ref (xo X)), (1, .int a1), (2, .int a2)] [] 0 := by
  rw [m_park] at h
  refine A_iload_n Γ dX1_park_0 1 rfl ?_
  replace h := b1 h
  obtain ⟨v2, e1, h⟩ := h
  refine kX1_X1isTractor Γ (kpX Ξ) hRm (by decide) (by decide) e1 (Nat.le_of_ble_eq_true rfl) dX1_park_1 ?_
  refine A_if_eq (t := 14) Γ dX1_park_4 (by decide) (fun c => ?_) (fun c => ?_)
  · replace h := it_t c h
    refine A_iconst (v := (-1)) Γ dX1_park_14 (by decide) ?_
    obtain ⟨rfl, rfl⟩ := inj2 h
    exact hret _ _ dX1_park_15
  · replace h := it_f c h
    refine A_iload_n Γ dX1_park_7 2 rfl ?_
    replace h := b1 h
    obtain ⟨v4, e3, h⟩ := h
    refine kX1_X1isYard Γ (kpX Ξ) hRm (by decide) (by decide) e3 (Nat.le_of_ble_eq_true rfl) dX1_park_8 ?_
    refine A_if_ne (t := 16) Γ dX1_park_11 (by decide) (fun c => ?_) (fun c => ?_)
    · replace h := it_f c h
      refine A_aload_n Γ dX1_park_16 0 rfl ?_
      refine A_iload_n Γ dX1_park_17 1 rfl ?_
      replace h := b1 h
      obtain ⟨v6, e5, h⟩ := h
      refine kX1_X1isOnWay Γ Ξ hRm (by decide) (by decide) e5 (Nat.le_of_ble_eq_true rfl) dX1_park_18 ?_
      refine A_if_eq (t := 27) Γ dX1_park_21 (by decide) (fun c => ?_) (fun c => ?_)
      · replace h := it_t c h
        refine A_aload_n Γ dX1_park_27 0 rfl ?_
        refine g1_29 Γ Ξ dX1_park_28 ?_
        refine A_iload_n Γ dX1_park_31 1 rfl ?_
        refine A_iload_n Γ dX1_park_32 2 rfl ?_
        replace h := b1 h
        obtain ⟨σ7, e8, h⟩ := h
        refine w1_29 Γ Ξ e8 dX1_park_33 ?_
        refine A_aload_n Γ dX1_park_34 0 rfl ?_
        refine g1_30 Γ Ξ dX1_park_35 ?_
        refine A_iload_n Γ dX1_park_38 1 rfl ?_
        refine A_aload_n Γ dX1_park_39 0 rfl ?_
        refine g1_5 Γ Ξ dX1_park_40 ?_
        replace h := b1 h
        obtain ⟨σ9, e10, h⟩ := h
        refine w1_30 Γ Ξ e10 dX1_park_43 ?_
        refine A_aload_n Γ dX1_park_44 0 rfl ?_
        refine g1_32 Γ Ξ dX1_park_45 ?_
        refine A_iload_n Γ dX1_park_48 1 rfl ?_
        refine A_iconst (v := 0) Γ dX1_park_49 (by decide) ?_
        replace h := b1 h
        obtain ⟨σ11, e12, h⟩ := h
        refine w1_32 Γ Ξ e12 dX1_park_50 ?_
        refine A_iconst (v := 1) Γ dX1_park_51 (by decide) ?_
        obtain ⟨rfl, rfl⟩ := inj2 h
        exact hret _ _ dX1_park_52
      · replace h := it_f c h
        refine A_bipush (v := (-4)) Γ dX1_park_24 (by decide) ?_
        obtain ⟨rfl, rfl⟩ := inj2 h
        exact hret _ _ dX1_park_26
    · replace h := it_t c h
      refine A_iconst (v := (-1)) Γ dX1_park_14 (by decide) ?_
      obtain ⟨rfl, rfl⟩ := inj2 h
      exact hret _ _ dX1_park_15
theorem mtX1_park (l : Launch) (X : Xw) {σ σ' : St} {a1 : Int32} {a2 : Int32} {r : Int32} (h : m_park σ a1 a2 = some (r, σ')) : MetZ 1 l X yX1_park cX1_park 3 (some .int) 2 42 [.ref (xo X), .int a1, .int a2] σ (some (.int r)) σ' := MetZ.ofAt (by decide) (Nat.le_of_ble_eq_true rfl) (fun G _ Γ Ξ hR hret => wkX1_park Γ Ξ hR h hret)

set_option maxHeartbeats 4000000 in
set_option maxRecDepth 100000 in
theorem wkX1_hitch {G : Gx} {X : Xw} {σ σ' : St} (Γ : Ok G RX1 cX1_hitch 3) (Ξ : OkX 1 G X) (hRm : Rm G 2 43) {a1 : Int32} {a2 : Int32} {r : Int32} (h : m_hitch σ a1 a2 = some (r, σ')) (hret : ∀ (pc : Nat) (lv : List (Nat × Value)), retIs cX1_hitch (some .int) (some (.int r)) pc → At G 3 σ' lv [.int r] pc) : At G 3 σ [(0, .ref (xo X)), (1, .int a1), (2, .int a2)] [] 0 := by
  rw [m_hitch] at h
  refine A_iload_n Γ dX1_hitch_0 1 rfl ?_
  replace h := b1 h
  obtain ⟨v2, e1, h⟩ := h
  refine kX1_X1isTractor Γ (kpX Ξ) hRm (by decide) (by decide) e1 (Nat.le_of_ble_eq_true rfl) dX1_hitch_1 ?_
  refine A_if_eq (t := 15) Γ dX1_hitch_4 (by decide) (fun c => ?_) (fun c => ?_)
  · replace h := it_t c h
    refine A_iconst (v := (-1)) Γ dX1_hitch_15 (by decide) ?_
    obtain ⟨rfl, rfl⟩ := inj2 h
    exact hret _ _ dX1_hitch_16
  · replace h := it_f c h
    refine A_aload_n Γ dX1_hitch_7 0 rfl ?_
    refine A_iload_n Γ dX1_hitch_8 2 rfl ?_
    replace h := b1 h
    obtain ⟨v4, e3, h⟩ := h
    refine kX1_X1isTrailer Γ Ξ hRm (by decide) (by decide) e3 (Nat.le_of_ble_eq_true rfl) dX1_hitch_9 ?_
    refine A_if_ne (t := 17) Γ dX1_hitch_12 (by decide) (fun c => ?_) (fun c => ?_)
    · replace h := it_f c h
      refine A_aload_n Γ dX1_hitch_17 0 rfl ?_
      refine A_iload_n Γ dX1_hitch_18 1 rfl ?_
      replace h := b1 h
      obtain ⟨v6, e5, h⟩ := h
      refine kX1_X1isOnWay Γ Ξ hRm (by decide) (by decide) e5 (Nat.le_of_ble_eq_true rfl) dX1_hitch_19 ?_
      refine A_if_ne (t := 49) Γ dX1_hitch_22 (by decide) (fun c => ?_) (fun c => ?_)
      · replace h := it_f c h
        refine A_bipush (v := (-4)) Γ dX1_hitch_49 (by decide) ?_
        obtain ⟨rfl, rfl⟩ := inj2 h
        exact hret _ _ dX1_hitch_51
      · replace h := it_t c h
        refine A_aload_n Γ dX1_hitch_25 0 rfl ?_
        refine g1_31 Γ Ξ dX1_hitch_26 ?_
        refine A_iload_n Γ dX1_hitch_29 1 rfl ?_
        replace h := b1 h
        obtain ⟨v7, e8, h⟩ := h
        refine r1_31 Γ Ξ e8 dX1_hitch_30 ?_
        refine A_if_ge (t := 49) Γ dX1_hitch_31 (by decide) (fun c => ?_) (fun c => ?_)
        · replace h := it_t c h
          refine A_bipush (v := (-4)) Γ dX1_hitch_49 (by decide) ?_
          obtain ⟨rfl, rfl⟩ := inj2 h
          exact hret _ _ dX1_hitch_51
        · replace h := it_f c h
          refine A_aload_n Γ dX1_hitch_34 0 rfl ?_
          refine g1_18 Γ Ξ dX1_hitch_35 ?_
          refine A_iload_n Γ dX1_hitch_38 2 rfl ?_
          replace h := b1 h
          obtain ⟨v9, e10, h⟩ := h
          refine r1_18 Γ Ξ e10 dX1_hitch_39 ?_
          refine A_aload_n Γ dX1_hitch_40 0 rfl ?_
          refine g1_29 Γ Ξ dX1_hitch_41 ?_
          refine A_iload_n Γ dX1_hitch_44 1 rfl ?_
          replace h := b1 h
          obtain ⟨v11, e12, h⟩ := h
          refine r1_29 Γ Ξ e12 dX1_hitch_45 ?_
          refine A_icmp_eq (t := 52) Γ dX1_hitch_46 (by decide) (fun c => ?_) (fun c => ?_)
          · replace h := it_t c h
            refine A_aload_n Γ dX1_hitch_52 0 rfl ?_
            refine g1_34 Γ Ξ dX1_hitch_53 ?_
            refine A_bipush (v := 60) Γ dX1_hitch_56 (by decide) ?_
            refine A_icmp_ne (t := 64) Γ dX1_hitch_58 (by decide) (fun c => ?_) (fun c => ?_)
            · replace h := it_f c h
              refine A_aload_n Γ dX1_hitch_64 0 rfl ?_
              refine A_iload_n Γ dX1_hitch_65 2 rfl ?_
              refine A_iconst (v := 1) Γ dX1_hitch_66 (by decide) ?_
              refine A_iload_n Γ dX1_hitch_67 1 rfl ?_
              refine A_aload_n Γ dX1_hitch_68 0 rfl ?_
              refine g1_18 Γ Ξ dX1_hitch_69 ?_
              refine A_iload_n Γ dX1_hitch_72 2 rfl ?_
              replace h := b1 h
              obtain ⟨v13, e14, h⟩ := h
              refine r1_18 Γ Ξ e14 dX1_hitch_73 ?_
              replace h := b1 h
              obtain ⟨σ16, e15, h⟩ := h
              refine kX1_X1enter Γ Ξ hRm (by decide) (by decide) e15 (Nat.le_of_ble_eq_true rfl) dX1_hitch_74 ?_
              refine A_aload_n Γ dX1_hitch_77 0 rfl ?_
              refine g1_18 Γ Ξ dX1_hitch_78 ?_
              refine A_iload_n Γ dX1_hitch_81 2 rfl ?_
              refine A_bipush (v := (-9)) Γ dX1_hitch_82 (by decide) ?_
              replace h := b1 h
              obtain ⟨σ17, e18, h⟩ := h
              refine w1_18 Γ Ξ e18 dX1_hitch_84 ?_
              refine A_aload_n Γ dX1_hitch_85 0 rfl ?_
              refine g1_19 Γ Ξ dX1_hitch_86 ?_
              refine A_iload_n Γ dX1_hitch_89 2 rfl ?_
              refine A_iload_n Γ dX1_hitch_90 1 rfl ?_
              replace h := b1 h
              obtain ⟨σ19, e20, h⟩ := h
              refine w1_19 Γ Ξ e20 dX1_hitch_91 ?_
              refine A_aload_n Γ dX1_hitch_92 0 rfl ?_
              refine g1_31 Γ Ξ dX1_hitch_93 ?_
              refine A_iload_n Γ dX1_hitch_96 1 rfl ?_
              refine A_iload_n Γ dX1_hitch_97 2 rfl ?_
              replace h := b1 h
              obtain ⟨σ21, e22, h⟩ := h
              refine w1_31 Γ Ξ e22 dX1_hitch_98 ?_
              refine A_iconst (v := 1) Γ dX1_hitch_99 (by decide) ?_
              obtain ⟨rfl, rfl⟩ := inj2 h
              exact hret _ _ dX1_hitch_100
            · replace h := it_t c h
              refine A_bipush (v := (-2)) Γ dX1_hitch_61 (by decide) ?_
              obtain ⟨rfl, rfl⟩ := inj2 h
              exact hret _ _ dX1_hitch_63
          · replace h := it_f c h
            refine A_bipush (v := (-4)) Γ dX1_hitch_49 (by decide) ?_
            obtain ⟨rfl, rfl⟩ := inj2 h
            exact hret _ _ dX1_hitch_51
    · replace h := it_t c h
      refine A_iconst (v := (-1)) Γ dX1_hitch_15 (by decide) ?_
      obtain ⟨rfl, rfl⟩ := inj2 h
      exact hret _ _ dX1_hitch_16
theorem mtX1_hitch (l : Launch) (X : Xw) {σ σ' : St} {a1 : Int32} {a2 : Int32} {r : Int32} (h : m_hitch σ a1 a2 = some (r, σ')) : MetZ 1 l X yX1_hitch cX1_hitch 3 (some .int) 2 43 [.ref (xo X), .int a1, .int a2] σ (some (.int r)) σ' := MetZ.ofAt (by decide) (Nat.le_of_ble_eq_true rfl) (fun G _ Γ Ξ hR hret => wkX1_hitch Γ Ξ hR h hret)

set_option maxHeartbeats 4000000 in
set_option maxRecDepth 100000 in
theorem wkX1_drop {G : Gx} {X : Xw} {σ σ' : St} (Γ : Ok G RX1 cX1_drop 3) (Ξ : OkX 1 G X) (hRm : Rm G 2 42) {a1 : Int32} {r : Int32} (h : m_drop σ a1 = some (r, σ')) (hret : ∀ (pc : Nat) (lv : List (Nat × Value)), retIs cX1_drop (some .int) (some (.int r)) pc → At G 3 σ' lv [.int r] pc) : At G 3 σ [(0, .ref (xo X)), (1, .int a1)] [] 0 := by
  rw [m_drop] at h
  refine A_iload_n Γ dX1_drop_0 1 rfl ?_
  replace h := b1 h
  obtain ⟨v2, e1, h⟩ := h
  refine kX1_X1isTractor Γ (kpX Ξ) hRm (by decide) (by decide) e1 (Nat.le_of_ble_eq_true rfl) dX1_drop_1 ?_
  refine A_if_ne (t := 9) Γ dX1_drop_4 (by decide) (fun c => ?_) (fun c => ?_)
  · replace h := it_f c h
    refine A_aload_n Γ dX1_drop_9 0 rfl ?_
    refine A_iload_n Γ dX1_drop_10 1 rfl ?_
    replace h := b1 h
    obtain ⟨v4, e3, h⟩ := h
    refine kX1_X1isOnWay Γ Ξ hRm (by decide) (by decide) e3 (Nat.le_of_ble_eq_true rfl) dX1_drop_11 ?_
    refine A_if_ne (t := 26) Γ dX1_drop_14 (by decide) (fun c => ?_) (fun c => ?_)
    · replace h := it_f c h
      refine A_bipush (v := (-4)) Γ dX1_drop_26 (by decide) ?_
      obtain ⟨rfl, rfl⟩ := inj2 h
      exact hret _ _ dX1_drop_28
    · replace h := it_t c h
      refine A_aload_n Γ dX1_drop_17 0 rfl ?_
      refine g1_31 Γ Ξ dX1_drop_18 ?_
      refine A_iload_n Γ dX1_drop_21 1 rfl ?_
      replace h := b1 h
      obtain ⟨v5, e6, h⟩ := h
      refine r1_31 Γ Ξ e6 dX1_drop_22 ?_
      refine A_if_ge (t := 29) Γ dX1_drop_23 (by decide) (fun c => ?_) (fun c => ?_)
      · replace h := it_t c h
        refine A_aload_n Γ dX1_drop_29 0 rfl ?_
        refine g1_34 Γ Ξ dX1_drop_30 ?_
        refine A_bipush (v := 60) Γ dX1_drop_33 (by decide) ?_
        refine A_icmp_ne (t := 41) Γ dX1_drop_35 (by decide) (fun c => ?_) (fun c => ?_)
        · replace h := it_f c h
          refine A_aload_n Γ dX1_drop_41 0 rfl ?_
          refine g1_31 Γ Ξ dX1_drop_42 ?_
          refine A_iload_n Γ dX1_drop_45 1 rfl ?_
          replace h := b1 h
          obtain ⟨v7, e8, h⟩ := h
          refine r1_31 Γ Ξ e8 dX1_drop_46 ?_
          refine A_istore_n (lv' := [(2, .int v7), (0, .ref (xo X)), (1, .int a1)]) Γ dX1_drop_47 (by decide) rfl ?_
          refine A_aload_n Γ dX1_drop_48 1 rfl ?_
          refine g1_31 Γ Ξ dX1_drop_49 ?_
          refine A_iload_n Γ dX1_drop_52 2 rfl ?_
          refine A_bipush (v := (-9)) Γ dX1_drop_53 (by decide) ?_
          replace h := b1 h
          obtain ⟨σ9, e10, h⟩ := h
          refine w1_31 Γ Ξ e10 dX1_drop_55 ?_
          refine A_aload_n Γ dX1_drop_56 1 rfl ?_
          refine g1_19 Γ Ξ dX1_drop_57 ?_
          refine A_iload_n Γ dX1_drop_60 0 rfl ?_
          refine A_bipush (v := (-9)) Γ dX1_drop_61 (by decide) ?_
          replace h := b1 h
          obtain ⟨σ11, e12, h⟩ := h
          refine w1_19 Γ Ξ e12 dX1_drop_63 ?_
          refine A_aload_n Γ dX1_drop_64 1 rfl ?_
          refine g1_18 Γ Ξ dX1_drop_65 ?_
          refine A_iload_n Γ dX1_drop_68 0 rfl ?_
          refine A_aload_n Γ dX1_drop_69 1 rfl ?_
          refine g1_29 Γ Ξ dX1_drop_70 ?_
          refine A_iload_n Γ dX1_drop_73 2 rfl ?_
          replace h := b1 h
          obtain ⟨v13, e14, h⟩ := h
          refine r1_29 Γ Ξ e14 dX1_drop_74 ?_
          replace h := b1 h
          obtain ⟨σ15, e16, h⟩ := h
          refine w1_18 Γ Ξ e16 dX1_drop_75 ?_
          refine A_aload_n Γ dX1_drop_76 1 rfl ?_
          refine A_iload_n Γ dX1_drop_77 0 rfl ?_
          refine A_iconst (v := 0) Γ dX1_drop_78 (by decide) ?_
          refine A_aload_n Γ dX1_drop_79 1 rfl ?_
          refine g1_29 Γ Ξ dX1_drop_80 ?_
          refine A_iload_n Γ dX1_drop_83 2 rfl ?_
          replace h := b1 h
          obtain ⟨v17, e18, h⟩ := h
          refine r1_29 Γ Ξ e18 dX1_drop_84 ?_
          refine A_aload_n Γ dX1_drop_85 1 rfl ?_
          refine g1_29 Γ Ξ dX1_drop_86 ?_
          refine A_iload_n Γ dX1_drop_89 2 rfl ?_
          replace h := b1 h
          obtain ⟨v19, e20, h⟩ := h
          refine r1_29 Γ Ξ e20 dX1_drop_90 ?_
          replace h := b1 h
          obtain ⟨σ22, e21, h⟩ := h
          refine kX1_X1enter Γ Ξ hRm (by decide) (by decide) e21 (Nat.le_of_ble_eq_true rfl) dX1_drop_91 ?_
          refine A_iload_n Γ dX1_drop_94 0 rfl ?_
          obtain ⟨rfl, rfl⟩ := inj2 h
          exact hret _ _ dX1_drop_95
        · replace h := it_t c h
          refine A_bipush (v := (-2)) Γ dX1_drop_38 (by decide) ?_
          obtain ⟨rfl, rfl⟩ := inj2 h
          exact hret _ _ dX1_drop_40
      · replace h := it_f c h
        refine A_bipush (v := (-4)) Γ dX1_drop_26 (by decide) ?_
        obtain ⟨rfl, rfl⟩ := inj2 h
        exact hret _ _ dX1_drop_28
  · replace h := it_t c h
    refine A_iconst (v := (-1)) Γ dX1_drop_7 (by decide) ?_
    obtain ⟨rfl, rfl⟩ := inj2 h
    exact hret _ _ dX1_drop_8
theorem mtX1_drop (l : Launch) (X : Xw) {σ σ' : St} {a1 : Int32} {r : Int32} (h : m_drop σ a1 = some (r, σ')) : MetZ 1 l X yX1_drop cX1_drop 3 (some .int) 2 42 [.ref (xo X), .int a1] σ (some (.int r)) σ' := MetZ.ofAt (by decide) (Nat.le_of_ble_eq_true rfl) (fun G _ Γ Ξ hR hret => wkX1_drop Γ Ξ hR h hret)

set_option maxHeartbeats 4000000 in
set_option maxRecDepth 100000 in
theorem wkX1_inForce {G : Gx} {X : Xw} {σ : St} (Γ : Ok G RX1 cX1_inForce 9) (Ξ : OkX 1 G X) (hRm : Rm G 0 0) {a1 : Int32} {a2 : Int32} {a3 : Int32} {a4 : Int32} {r : Int32} (h : m_inForce σ a1 a2 a3 a4 = some r) (hret : ∀ (pc : Nat) (lv : List (Nat × Value)), retIs cX1_inForce (some .int) (some (.int r)) pc → At G 9 σ lv [.int r] pc) : At G 9 σ [(0, .ref (xo X)), (1, .int a1), (2, .int a2), (3, .int a3), (4, .int a4)] [] 0 := by
  rw [m_inForce] at h
  refine A_iload_n Γ dX1_inForce_0 1 rfl ?_
  replace h := b1 h
  obtain ⟨x2, eJ1, h⟩ := h
  have hJJ1 : At G 9 σ [(0, .ref (xo X)), (1, .int a1), (3, .int a3), (4, .int a4)] [.int x2] 24 := by
    refine A_istore (lv' := [(5, .int x2), (0, .ref (xo X)), (1, .int a1), (3, .int a3), (4, .int a4)]) Γ dX1_inForce_24 (by decide) rfl ?_
    refine A_bipush (v := (-9)) Γ dX1_inForce_26 (by decide) ?_
    refine A_istore (lv' := [(6, .int (-9)), (5, .int x2), (0, .ref (xo X)), (1, .int a1), (3, .int a3), (4, .int a4)]) Γ dX1_inForce_28 (by decide) rfl ?_
    refine A_iconst (v := 0) Γ dX1_inForce_30 (by decide) ?_
    refine A_istore (lv' := [(7, .int 0), (6, .int (-9)), (5, .int x2), (0, .ref (xo X)), (1, .int a1), (3, .int a3), (4, .int a4)]) Γ dX1_inForce_31 (by decide) rfl ?_
    replace h := b1 h
    obtain ⟨x6, eLL3, h⟩ := h
    have hXL3 : At G 9 σ [(0, .ref (xo X)), (1, .int a1), (5, .int x2), (6, .int x6)] [] 130 := by
      refine A_iload Γ dX1_inForce_130 3 rfl ?_
      replace h := b1 h
      obtain ⟨x22, eJ21, h⟩ := h
      have hJJ21 : At G 9 σ [] [.int x22] 183 := by
        obtain rfl := inj1 h
        exact hret _ _ dX1_inForce_183
      refine A_if_lt (t := 151) Γ dX1_inForce_132 (by decide) (fun c => ?_) (fun c => ?_)
      · replace eJ21 := it_t c eJ21
        refine A_iload_n Γ dX1_inForce_151 1 rfl ?_
        refine A_if_ne (t := 160) Γ dX1_inForce_152 (by decide) (fun c => ?_) (fun c => ?_)
        · replace eJ21 := it_f c eJ21
          refine A_iload_n Γ dX1_inForce_160 1 rfl ?_
          refine A_iconst (v := 1) Γ dX1_inForce_161 (by decide) ?_
          refine A_icmp_ne (t := 169) Γ dX1_inForce_162 (by decide) (fun c => ?_) (fun c => ?_)
          · replace eJ21 := it_f c eJ21
            refine A_iload_n Γ dX1_inForce_169 1 rfl ?_
            refine A_iconst (v := 2) Γ dX1_inForce_170 (by decide) ?_
            refine A_icmp_ne (t := 180) Γ dX1_inForce_171 (by decide) (fun c => ?_) (fun c => ?_)
            · replace eJ21 := it_f c eJ21
              refine A_sipush (v := 480) Γ dX1_inForce_180 (by decide) ?_
              obtain rfl := inj1 eJ21
              exact A_sub [] rfl hJJ21
            · replace eJ21 := it_t c eJ21
              refine A_sipush (v := 600) Γ dX1_inForce_174 (by decide) ?_
              refine A_goto (t := 183) Γ dX1_inForce_177 (by decide) ?_
              obtain rfl := inj1 eJ21
              exact A_sub [] rfl hJJ21
          · replace eJ21 := it_t c eJ21
            refine A_iconst (v := 0) Γ dX1_inForce_165 (by decide) ?_
            refine A_goto (t := 183) Γ dX1_inForce_166 (by decide) ?_
            obtain rfl := inj1 eJ21
            exact A_sub [] rfl hJJ21
        · replace eJ21 := it_t c eJ21
          refine A_bipush (v := 120) Γ dX1_inForce_155 (by decide) ?_
          refine A_goto (t := 183) Γ dX1_inForce_157 (by decide) ?_
          obtain rfl := inj1 eJ21
          exact A_sub [] rfl hJJ21
      · replace eJ21 := it_f c eJ21
        refine A_aload_n Γ dX1_inForce_135 0 rfl ?_
        refine g1_43 Γ Ξ dX1_inForce_136 ?_
        refine A_bipush (v := 18) Γ dX1_inForce_139 (by decide) ?_
        refine A_iload Γ dX1_inForce_141 3 rfl ?_
        refine A_imul Γ dX1_inForce_143 ?_
        refine A_iload Γ dX1_inForce_144 2 rfl ?_
        refine A_iadd Γ dX1_inForce_146 ?_
        replace eJ21 := b1 eJ21
        obtain ⟨v23, e24, eJ21⟩ := eJ21
        refine r1_43 Γ Ξ e24 dX1_inForce_147 ?_
        refine A_goto (t := 183) Γ dX1_inForce_148 (by decide) ?_
        obtain rfl := inj1 eJ21
        exact A_sub [] rfl hJJ21
    replace eLL3 := lq2_ex eLL3
    obtain ⟨nL3, eLL3⟩ := eLL3
    have hLL3 : ∀ (nL3 : Nat) (x4 : Int32) (x5 : Int32), lpf2 (m_inForce_L3 σ a3 a4 x2) nL3 x4 x5 = some x6 → At G 9 σ [(0, .ref (xo X)), (1, .int a1), (3, .int a3), (4, .int a4), (5, .int x2), (6, .int x4), (7, .int x5)] [] 33 := by
      intro nL3
      induction nL3 with
      | zero => intro x4 x5 eL3; exact (lpf2_0 eL3).elim
      | succ nL3 ihL3 =>
        intro x4 x5 eL3
        replace eL3 := lpf2_s eL3
        obtain ⟨qL3, eL3, hqL3⟩ := eL3
        rw [m_inForce_L3] at eL3
        refine A_iload Γ dX1_inForce_33 6 rfl ?_
        refine A_aload_n Γ dX1_inForce_35 0 rfl ?_
        refine g1_40 Γ Ξ dX1_inForce_36 ?_
        refine A_icmp_ge (t := 130) Γ dX1_inForce_39 (by decide) (fun c => ?_) (fun c => ?_)
        · replace eL3 := it_t c eL3
          obtain rfl := pr1 (lpx2 eL3 hqL3)
          exact A_sub [0, 1, 4, 5] rfl hXL3
        · replace eL3 := it_f c eL3
          refine A_aload_n Γ dX1_inForce_42 0 rfl ?_
          refine g1_41 Γ Ξ dX1_inForce_43 ?_
          refine A_iload Γ dX1_inForce_46 6 rfl ?_
          replace eL3 := b1 eL3
          obtain ⟨v7, e8, eL3⟩ := eL3
          refine r1_41 Γ Ξ e8 dX1_inForce_48 ?_
          refine A_iload Γ dX1_inForce_49 3 rfl ?_
          replace eL3 := b1 eL3
          obtain ⟨x10, eJ9, eL3⟩ := eL3
          have hJJ9 : At G 9 σ [(0, .ref (xo X)), (1, .int a1), (3, .int a3), (4, .int a4), (5, .int x2), (6, .int x4), (7, .int x5)] [.int x10] 86 := by
            refine A_istore (lv' := [(8, .int x10), (0, .ref (xo X)), (1, .int a1), (3, .int a3), (4, .int a4), (5, .int x2), (6, .int x4), (7, .int x5)]) Γ dX1_inForce_86 (by decide) rfl ?_
            refine A_iload Γ dX1_inForce_88 0 rfl ?_
            replace eL3 := b1 eL3
            obtain ⟨x16, eJ15, eL3⟩ := eL3
            have hJJ15 : At G 9 σ [(0, .ref (xo X)), (1, .int a1), (3, .int a3), (4, .int a4), (5, .int x2), (7, .int x5)] [.int x16] 122 := by
              refine A_istore (lv' := [(6, .int x16), (0, .ref (xo X)), (1, .int a1), (3, .int a3), (4, .int a4), (5, .int x2), (7, .int x5)]) Γ dX1_inForce_122 (by decide) rfl ?_
              refine A_iinc (v := x5 + 1) (lv' := [(7, .int (x5 + 1)), (6, .int x16), (0, .ref (xo X)), (1, .int a1), (3, .int a3), (4, .int a4), (5, .int x2)]) Γ dX1_inForce_124 6 rfl rfl (by decide) rfl ?_
              refine A_goto (t := 33) Γ dX1_inForce_127 (by decide) ?_
              exact A_sub [2, 3, 4, 5, 6, 1, 0] rfl (ihL3 _ _ (lpc2 eL3 hqL3))
            refine A_if_eq (t := 120) Γ dX1_inForce_90 (by decide) (fun c => ?_) (fun c => ?_)
            · replace eJ15 := it_t c eJ15
              refine A_iload Γ dX1_inForce_120 6 rfl ?_
              obtain rfl := inj1 eJ15
              exact A_sub [1, 2, 3, 4, 5, 7] rfl hJJ15
            · replace eJ15 := it_f c eJ15
              refine A_iload Γ dX1_inForce_93 6 rfl ?_
              refine A_if_lt (t := 115) Γ dX1_inForce_95 (by decide) (fun c => ?_) (fun c => ?_)
              · replace eJ15 := it_t c eJ15
                refine A_iload Γ dX1_inForce_115 7 rfl ?_
                refine A_goto (t := 122) Γ dX1_inForce_117 (by decide) ?_
                obtain rfl := inj1 eJ15
                exact A_sub [1, 2, 3, 4, 5, 7] rfl hJJ15
              · replace eJ15 := it_f c eJ15
                refine A_aload_n Γ dX1_inForce_98 1 rfl ?_
                refine g1_42 Γ Ξ dX1_inForce_99 ?_
                refine A_iload Γ dX1_inForce_102 7 rfl ?_
                replace eJ15 := b1 eJ15
                obtain ⟨v17, e18, eJ15⟩ := eJ15
                refine r1_42 Γ Ξ e18 dX1_inForce_104 ?_
                refine A_aload_n Γ dX1_inForce_105 1 rfl ?_
                refine g1_42 Γ Ξ dX1_inForce_106 ?_
                refine A_iload Γ dX1_inForce_109 6 rfl ?_
                replace eJ15 := b1 eJ15
                obtain ⟨v19, e20, eJ15⟩ := eJ15
                refine r1_42 Γ Ξ e20 dX1_inForce_111 ?_
                refine A_icmp_lt (t := 120) Γ dX1_inForce_112 (by decide) (fun c => ?_) (fun c => ?_)
                · replace eJ15 := it_t c eJ15
                  refine A_iload Γ dX1_inForce_120 6 rfl ?_
                  obtain rfl := inj1 eJ15
                  exact A_sub [1, 2, 3, 4, 5, 7] rfl hJJ15
                · replace eJ15 := it_f c eJ15
                  refine A_iload Γ dX1_inForce_115 7 rfl ?_
                  refine A_goto (t := 122) Γ dX1_inForce_117 (by decide) ?_
                  obtain rfl := inj1 eJ15
                  exact A_sub [1, 2, 3, 4, 5, 7] rfl hJJ15
          refine A_icmp_gt (t := 85) Γ dX1_inForce_51 (by decide) (fun c => ?_) (fun c => ?_)
          · replace eJ9 := it_t c eJ9
            refine A_iconst (v := 0) Γ dX1_inForce_85 (by decide) ?_
            obtain rfl := inj1 eJ9
            exact A_sub [0, 1, 2, 3, 4, 5, 6] rfl hJJ9
          · replace eJ9 := it_f c eJ9
            refine A_aload_n Γ dX1_inForce_54 0 rfl ?_
            refine g1_42 Γ Ξ dX1_inForce_55 ?_
            refine A_iload Γ dX1_inForce_58 6 rfl ?_
            replace eJ9 := b1 eJ9
            obtain ⟨v11, e12, eJ9⟩ := eJ9
            refine r1_42 Γ Ξ e12 dX1_inForce_60 ?_
            refine A_iload_n Γ dX1_inForce_61 2 rfl ?_
            refine A_icmp_gt (t := 85) Γ dX1_inForce_62 (by decide) (fun c => ?_) (fun c => ?_)
            · replace eJ9 := it_t c eJ9
              refine A_iconst (v := 0) Γ dX1_inForce_85 (by decide) ?_
              obtain rfl := inj1 eJ9
              exact A_sub [0, 1, 2, 3, 4, 5, 6] rfl hJJ9
            · replace eJ9 := it_f c eJ9
              refine A_aload_n Γ dX1_inForce_65 0 rfl ?_
              refine g1_43 Γ Ξ dX1_inForce_66 ?_
              refine A_bipush (v := 18) Γ dX1_inForce_69 (by decide) ?_
              refine A_iload Γ dX1_inForce_71 6 rfl ?_
              refine A_imul Γ dX1_inForce_73 ?_
              refine A_iload Γ dX1_inForce_74 4 rfl ?_
              refine A_iadd Γ dX1_inForce_76 ?_
              replace eJ9 := b1 eJ9
              obtain ⟨v13, e14, eJ9⟩ := eJ9
              refine r1_43 Γ Ξ e14 dX1_inForce_77 ?_
              refine A_if_lt (t := 85) Γ dX1_inForce_78 (by decide) (fun c => ?_) (fun c => ?_)
              · replace eJ9 := it_t c eJ9
                refine A_iconst (v := 0) Γ dX1_inForce_85 (by decide) ?_
                obtain rfl := inj1 eJ9
                exact A_sub [0, 1, 2, 3, 4, 5, 6] rfl hJJ9
              · replace eJ9 := it_f c eJ9
                refine A_iconst (v := 1) Γ dX1_inForce_81 (by decide) ?_
                refine A_goto (t := 86) Γ dX1_inForce_82 (by decide) ?_
                obtain rfl := inj1 eJ9
                exact A_sub [0, 1, 2, 3, 4, 5, 6] rfl hJJ9
    exact A_sub [3, 4, 5, 6, 2, 1, 0] rfl (hLL3 _ _ _ eLL3)
  refine A_if_ne (t := 8) Γ dX1_inForce_1 (by decide) (fun c => ?_) (fun c => ?_)
  · replace eJ1 := it_f c eJ1
    refine A_iload_n Γ dX1_inForce_8 1 rfl ?_
    refine A_iconst (v := 1) Γ dX1_inForce_9 (by decide) ?_
    refine A_icmp_ne (t := 20) Γ dX1_inForce_10 (by decide) (fun c => ?_) (fun c => ?_)
    · replace eJ1 := it_f c eJ1
      refine A_bipush (v := 14) Γ dX1_inForce_20 (by decide) ?_
      refine A_iload_n Γ dX1_inForce_22 1 rfl ?_
      refine A_iadd Γ dX1_inForce_23 ?_
      obtain rfl := inj1 eJ1
      exact A_sub [0, 1, 3, 4] rfl hJJ1
    · replace eJ1 := it_t c eJ1
      refine A_bipush (v := 8) Γ dX1_inForce_13 (by decide) ?_
      refine A_iload_n Γ dX1_inForce_15 2 rfl ?_
      refine A_iadd Γ dX1_inForce_16 ?_
      refine A_goto (t := 24) Γ dX1_inForce_17 (by decide) ?_
      obtain rfl := inj1 eJ1
      exact A_sub [0, 1, 3, 4] rfl hJJ1
  · replace eJ1 := it_t c eJ1
    refine A_iload_n Γ dX1_inForce_4 2 rfl ?_
    refine A_goto (t := 24) Γ dX1_inForce_5 (by decide) ?_
    obtain rfl := inj1 eJ1
    exact A_sub [0, 1, 3, 4] rfl hJJ1
theorem mtX1_inForce (l : Launch) (X : Xw) {σ : St} {a1 : Int32} {a2 : Int32} {a3 : Int32} {a4 : Int32} {r : Int32} (h : m_inForce σ a1 a2 a3 a4 = some r) : MetZ 1 l X yX1_inForce cX1_inForce 9 (some .int) 0 0 [.ref (xo X), .int a1, .int a2, .int a3, .int a4] σ (some (.int r)) σ := MetZ.ofAt (by decide) (Nat.le_of_ble_eq_true rfl) (fun G _ Γ Ξ hR hret => wkX1_inForce Γ Ξ hR h hret)
theorem kX1_X1inForce {G : Gx} {X : Xw} {cc : ByteArray} {nL pc F LO : Nat} {σ : St} {lv : List (Nat × Value)} {st : List Value} (Γ : Ok G RX1 cc nL) (Ξ : OkX 1 G X) {a1 : Int32} {a2 : Int32} {a3 : Int32} {a4 : Int32} {r : Int32} (hRm : Rm G F LO) (hf : 0 + 1 ≤ F) (hlo : 8 + (9 + 11) + 0 ≤ LO) (h : m_inForce σ a1 a2 a3 a4 = some r) (hW : (st.map fun v => v.category).sum ≤ 8) (d : decode cc pc = .ok (.invokevirtual 264, 3)) (kk : At G nL σ lv (.int r :: st) (pc + 3)) : At G nL σ lv (.int a4 :: .int a3 :: .int a2 :: .int a1 :: .ref (xo X) :: st) pc := A_callV Γ Ξ rfl rfl (mtX1_inForce (gl G) X h) (lw_V q1441 q1443 qs44 q64 q1444) (n := 4) (by decide +kernel) (rm_ok hRm hf hlo) (rm_k hRm) rfl rfl hW d kk
set_option maxHeartbeats 4000000 in
set_option maxRecDepth 100000 in
theorem wkX1_go {G : Gx} {X : Xw} {σ σ' : St} (Γ : Ok G RX1 cX1_go 6) (Ξ : OkX 1 G X) (hRm : Rm G 2 51) {a1 : Int32} {a2 : Int32} {r : Int32} (h : m_go σ a1 a2 = some (r, σ')) (hret : ∀ (pc : Nat) (lv : List (Nat × Value)), retIs cX1_go (some .int) (some (.int r)) pc → At G 6 σ' lv [.int r] pc) : At G 6 σ [(0, .ref (xo X)), (1, .int a1), (2, .int a2)] [] 0 := by
  rw [m_go] at h
  refine A_iload_n Γ dX1_go_0 1 rfl ?_
  replace h := b1 h
  obtain ⟨v2, e1, h⟩ := h
  refine kX1_X1isTractor Γ (kpX Ξ) hRm (by decide) (by decide) e1 (Nat.le_of_ble_eq_true rfl) dX1_go_1 ?_
  refine A_if_eq (t := 24) Γ dX1_go_4 (by decide) (fun c => ?_) (fun c => ?_)
  · replace h := it_t c h
    refine A_iconst (v := (-1)) Γ dX1_go_24 (by decide) ?_
    obtain ⟨rfl, rfl⟩ := inj2 h
    exact hret _ _ dX1_go_25
  · replace h := it_f c h
    refine A_iload_n Γ dX1_go_7 2 rfl ?_
    replace h := b1 h
    obtain ⟨v4, e3, h⟩ := h
    refine kX1_X1isYard Γ (kpX Ξ) hRm (by decide) (by decide) e3 (Nat.le_of_ble_eq_true rfl) dX1_go_8 ?_
    refine A_if_eq (t := 24) Γ dX1_go_11 (by decide) (fun c => ?_) (fun c => ?_)
    · replace h := it_t c h
      refine A_iconst (v := (-1)) Γ dX1_go_24 (by decide) ?_
      obtain ⟨rfl, rfl⟩ := inj2 h
      exact hret _ _ dX1_go_25
    · replace h := it_f c h
      refine A_aload_n Γ dX1_go_14 0 rfl ?_
      refine g1_29 Γ Ξ dX1_go_15 ?_
      refine A_iload_n Γ dX1_go_18 1 rfl ?_
      replace h := b1 h
      obtain ⟨v5, e6, h⟩ := h
      refine r1_29 Γ Ξ e6 dX1_go_19 ?_
      refine A_iload_n Γ dX1_go_20 2 rfl ?_
      refine A_icmp_ne (t := 26) Γ dX1_go_21 (by decide) (fun c => ?_) (fun c => ?_)
      · replace h := it_f c h
        refine A_aload_n Γ dX1_go_26 0 rfl ?_
        refine A_iload_n Γ dX1_go_27 1 rfl ?_
        replace h := b1 h
        obtain ⟨v8, e7, h⟩ := h
        refine kX1_X1isOnWay Γ Ξ hRm (by decide) (by decide) e7 (Nat.le_of_ble_eq_true rfl) dX1_go_28 ?_
        refine A_if_eq (t := 37) Γ dX1_go_31 (by decide) (fun c => ?_) (fun c => ?_)
        · replace h := it_t c h
          refine A_aload_n Γ dX1_go_37 0 rfl ?_
          refine A_aload_n Γ dX1_go_38 0 rfl ?_
          refine g1_29 Γ Ξ dX1_go_39 ?_
          refine A_iload_n Γ dX1_go_42 1 rfl ?_
          replace h := b1 h
          obtain ⟨v9, e10, h⟩ := h
          refine r1_29 Γ Ξ e10 dX1_go_43 ?_
          refine A_aload_n Γ dX1_go_44 0 rfl ?_
          refine g1_5 Γ Ξ dX1_go_45 ?_
          refine A_iload_n Γ dX1_go_48 2 rfl ?_
          replace h := b2 h
          obtain ⟨v12, σ13, e11, h⟩ := h
          refine kX1_X1comesTo Γ Ξ hRm (by decide) (by decide) e11 (Nat.le_of_ble_eq_true rfl) dX1_go_49 ?_
          refine A_istore_n (lv' := [(3, .int v12), (0, .ref (xo X)), (1, .int a1), (2, .int a2)]) Γ dX1_go_52 (by decide) rfl ?_
          refine A_iload_n Γ dX1_go_53 0 rfl ?_
          refine A_ldc (v := 100000000) Γ q1362 dX1_go_54 ?_
          refine A_icmp_ne (t := 65) Γ dX1_go_56 (by decide) (fun c => ?_) (fun c => ?_)
          · replace h := it_f c h
            refine A_aload_n Γ dX1_go_65 1 rfl ?_
            refine g1_5 Γ Ξ dX1_go_66 ?_
            refine A_aload_n Γ dX1_go_69 1 rfl ?_
            refine g1_30 Γ Ξ dX1_go_70 ?_
            refine A_iload_n Γ dX1_go_73 2 rfl ?_
            replace h := b1 h
            obtain ⟨v14, e15, h⟩ := h
            refine r1_30 Γ Ξ e15 dX1_go_74 ?_
            refine A_isub Γ dX1_go_75 ?_
            refine A_aload_n Γ dX1_go_76 1 rfl ?_
            refine A_iconst (v := 3) Γ dX1_go_77 (by decide) ?_
            refine A_iconst (v := 0) Γ dX1_go_78 (by decide) ?_
            refine A_aload_n Γ dX1_go_79 1 rfl ?_
            refine g1_5 Γ Ξ dX1_go_80 ?_
            replace h := b1 h
            obtain ⟨v17, e16, h⟩ := h
            refine kX1_X1day Γ (kpX Ξ) hRm (by decide) (by decide) e16 (Nat.le_of_ble_eq_true rfl) dX1_go_83 ?_
            refine A_aload_n Γ dX1_go_86 1 rfl ?_
            refine g1_5 Γ Ξ dX1_go_87 ?_
            replace h := b1 h
            obtain ⟨v19, e18, h⟩ := h
            refine kX1_X1day Γ (kpX Ξ) hRm (by decide) (by decide) e18 (Nat.le_of_ble_eq_true rfl) dX1_go_90 ?_
            replace h := b1 h
            obtain ⟨v21, e20, h⟩ := h
            refine kX1_X1inForce Γ Ξ hRm (by decide) (by decide) e20 (Nat.le_of_ble_eq_true rfl) dX1_go_93 ?_
            replace h := b1 h
            obtain ⟨x23, eJ22, h⟩ := h
            have hJJ22 : At G 6 σ13 [(0, .ref (xo X)), (1, .int a1), (2, .int a2), (3, .int v12)] [.int x23] 109 := by
              refine A_istore (lv' := [(4, .int x23), (0, .ref (xo X)), (1, .int a1), (2, .int a2), (3, .int v12)]) Γ dX1_go_109 (by decide) rfl ?_
              refine A_iload_n Γ dX1_go_111 4 rfl ?_
              refine A_aload_n Γ dX1_go_112 1 rfl ?_
              refine g1_5 Γ Ξ dX1_go_113 ?_
              refine A_isub Γ dX1_go_116 ?_
              refine A_istore (lv' := [(5, .int (v12 - (cI σ13 5))), (4, .int x23), (0, .ref (xo X)), (1, .int a1), (2, .int a2), (3, .int v12)]) Γ dX1_go_117 (by decide) rfl ?_
              refine A_iload_n Γ dX1_go_119 5 rfl ?_
              refine A_ldc (v := 99999) Γ q1338 dX1_go_120 ?_
              refine A_icmp_gt (t := 153) Γ dX1_go_122 (by decide) (fun c => ?_) (fun c => ?_)
              · replace h := it_t c h
                refine A_bipush (v := (-4)) Γ dX1_go_153 (by decide) ?_
                obtain ⟨rfl, rfl⟩ := inj2 h
                exact hret _ _ dX1_go_155
              · replace h := it_f c h
                refine A_iload Γ dX1_go_125 1 rfl ?_
                refine A_iload Γ dX1_go_127 0 rfl ?_
                refine A_iadd Γ dX1_go_129 ?_
                refine A_aload_n Γ dX1_go_130 2 rfl ?_
                refine A_iconst (v := 2) Γ dX1_go_131 (by decide) ?_
                refine A_iconst (v := 0) Γ dX1_go_132 (by decide) ?_
                refine A_aload_n Γ dX1_go_133 2 rfl ?_
                refine g1_5 Γ Ξ dX1_go_134 ?_
                replace h := b1 h
                obtain ⟨v27, e26, h⟩ := h
                refine kX1_X1day Γ (kpX Ξ) hRm (by decide) (by decide) e26 (Nat.le_of_ble_eq_true rfl) dX1_go_137 ?_
                refine A_aload_n Γ dX1_go_140 2 rfl ?_
                refine g1_5 Γ Ξ dX1_go_141 ?_
                replace h := b1 h
                obtain ⟨v29, e28, h⟩ := h
                refine kX1_X1day Γ (kpX Ξ) hRm (by decide) (by decide) e28 (Nat.le_of_ble_eq_true rfl) dX1_go_144 ?_
                replace h := b1 h
                obtain ⟨v31, e30, h⟩ := h
                refine kX1_X1inForce Γ Ξ hRm (by decide) (by decide) e30 (Nat.le_of_ble_eq_true rfl) dX1_go_147 ?_
                refine A_icmp_le (t := 156) Γ dX1_go_150 (by decide) (fun c => ?_) (fun c => ?_)
                · replace h := it_t c h
                  refine A_aload_n Γ dX1_go_156 2 rfl ?_
                  refine g1_32 Γ Ξ dX1_go_157 ?_
                  refine A_iload_n Γ dX1_go_160 3 rfl ?_
                  refine A_iload Γ dX1_go_161 1 rfl ?_
                  refine A_iload Γ dX1_go_163 0 rfl ?_
                  refine A_iadd Γ dX1_go_165 ?_
                  replace h := b1 h
                  obtain ⟨σ32, e33, h⟩ := h
                  refine w1_32 Γ Ξ e33 dX1_go_166 ?_
                  refine A_aload_n Γ dX1_go_167 2 rfl ?_
                  refine g1_33 Γ Ξ dX1_go_168 ?_
                  refine A_iload_n Γ dX1_go_171 3 rfl ?_
                  refine A_dup2 Γ dX1_go_172 rfl rfl ?_
                  replace h := b1 h
                  obtain ⟨v34, e35, h⟩ := h
                  refine r1_33 Γ Ξ e35 dX1_go_173 ?_
                  refine A_iload Γ dX1_go_174 0 rfl ?_
                  refine A_iadd Γ dX1_go_176 ?_
                  replace h := b1 h
                  obtain ⟨σ36, e37, h⟩ := h
                  refine w1_33 Γ Ξ e37 dX1_go_177 ?_
                  refine A_aload_n Γ dX1_go_178 2 rfl ?_
                  refine g1_29 Γ Ξ dX1_go_179 ?_
                  refine A_iload_n Γ dX1_go_182 3 rfl ?_
                  refine A_iload_n Γ dX1_go_183 4 rfl ?_
                  replace h := b1 h
                  obtain ⟨σ38, e39, h⟩ := h
                  refine w1_29 Γ Ξ e39 dX1_go_184 ?_
                  refine A_aload_n Γ dX1_go_185 2 rfl ?_
                  refine g1_30 Γ Ξ dX1_go_186 ?_
                  refine A_iload_n Γ dX1_go_189 3 rfl ?_
                  refine A_iload_n Γ dX1_go_190 5 rfl ?_
                  replace h := b1 h
                  obtain ⟨σ40, e41, h⟩ := h
                  refine w1_30 Γ Ξ e41 dX1_go_191 ?_
                  refine A_iload_n Γ dX1_go_192 5 rfl ?_
                  obtain ⟨rfl, rfl⟩ := inj2 h
                  exact hret _ _ dX1_go_193
                · replace h := it_f c h
                  refine A_bipush (v := (-4)) Γ dX1_go_153 (by decide) ?_
                  obtain ⟨rfl, rfl⟩ := inj2 h
                  exact hret _ _ dX1_go_155
            refine A_icmp_lt (t := 103) Γ dX1_go_96 (by decide) (fun c => ?_) (fun c => ?_)
            · replace eJ22 := it_t c eJ22
              refine A_aload_n Γ dX1_go_103 1 rfl ?_
              refine g1_32 Γ Ξ dX1_go_104 ?_
              refine A_iload_n Γ dX1_go_107 2 rfl ?_
              replace eJ22 := b1 eJ22
              obtain ⟨v24, e25, eJ22⟩ := eJ22
              refine r1_32 Γ Ξ e25 dX1_go_108 ?_
              obtain rfl := inj1 eJ22
              exact A_sub [1, 2, 3, 0] rfl hJJ22
            · replace eJ22 := it_f c eJ22
              refine A_iconst (v := 0) Γ dX1_go_99 (by decide) ?_
              refine A_goto (t := 109) Γ dX1_go_100 (by decide) ?_
              obtain rfl := inj1 eJ22
              exact A_sub [1, 2, 3, 0] rfl hJJ22
          · replace h := it_t c h
            refine A_aload_n Γ dX1_go_59 1 rfl ?_
            refine A_iconst (v := 1) Γ dX1_go_60 (by decide) ?_
            replace h := b2 h
            obtain ⟨v43, σ44, e42, h⟩ := h
            refine kX1_X1meets Γ Ξ hRm (by decide) (by decide) e42 (Nat.le_of_ble_eq_true rfl) dX1_go_61 ?_
            obtain ⟨rfl, rfl⟩ := inj2 h
            exact hret _ _ dX1_go_64
        · replace h := it_f c h
          refine A_bipush (v := (-4)) Γ dX1_go_34 (by decide) ?_
          obtain ⟨rfl, rfl⟩ := inj2 h
          exact hret _ _ dX1_go_36
      · replace h := it_t c h
        refine A_iconst (v := (-1)) Γ dX1_go_24 (by decide) ?_
        obtain ⟨rfl, rfl⟩ := inj2 h
        exact hret _ _ dX1_go_25
theorem mtX1_go (l : Launch) (X : Xw) {σ σ' : St} {a1 : Int32} {a2 : Int32} {r : Int32} (h : m_go σ a1 a2 = some (r, σ')) : MetZ 1 l X yX1_go cX1_go 6 (some .int) 2 51 [.ref (xo X), .int a1, .int a2] σ (some (.int r)) σ' := MetZ.ofAt (by decide) (Nat.le_of_ble_eq_true rfl) (fun G _ Γ Ξ hR hret => wkX1_go Γ Ξ hR h hret)

set_option maxHeartbeats 4000000 in
set_option maxRecDepth 100000 in
theorem wkX1_tractorTells {G : Gx} {X : Xw} {σ : St} (Γ : Ok G RX1 cX1_tractorTells 3) (Ξ : OkX 1 G X) (hRm : Rm G 0 0) {a1 : Int32} {a2 : Int32} {r : Int32} (h : m_tractorTells σ a1 a2 = some r) (hret : ∀ (pc : Nat) (lv : List (Nat × Value)), retIs cX1_tractorTells (some .int) (some (.int r)) pc → At G 3 σ lv [.int r] pc) : At G 3 σ [(0, .ref (xo X)), (1, .int a1), (2, .int a2)] [] 0 := by
  rw [m_tractorTells] at h
  refine A_iload_n Γ dX1_tractorTells_0 2 rfl ?_
  by_cases c0 : a2 = 0
  · replace h := it_t c0 h
    refine A_tableIn (t := 32) (off := 31) Γ dX1_tractorTells_1 (by rw [c0]; decide) (by rw [c0]; decide) (by rw [c0]; rfl) (by decide) ?_
    refine A_aload_n Γ dX1_tractorTells_32 0 rfl ?_
    refine g1_29 Γ Ξ dX1_tractorTells_33 ?_
    refine A_iload_n Γ dX1_tractorTells_36 1 rfl ?_
    replace h := b1 h
    obtain ⟨v1, e2, h⟩ := h
    refine r1_29 Γ Ξ e2 dX1_tractorTells_37 ?_
    obtain rfl := inj1 h
    exact hret _ _ dX1_tractorTells_38
  replace h := it_f c0 h
  by_cases c1 : a2 = 1
  · replace h := it_t c1 h
    refine A_tableIn (t := 39) (off := 38) Γ dX1_tractorTells_1 (by rw [c1]; decide) (by rw [c1]; decide) (by rw [c1]; rfl) (by decide) ?_
    refine A_aload_n Γ dX1_tractorTells_39 0 rfl ?_
    refine g1_30 Γ Ξ dX1_tractorTells_40 ?_
    refine A_iload_n Γ dX1_tractorTells_43 1 rfl ?_
    replace h := b1 h
    obtain ⟨v3, e4, h⟩ := h
    refine r1_30 Γ Ξ e4 dX1_tractorTells_44 ?_
    obtain rfl := inj1 h
    exact hret _ _ dX1_tractorTells_45
  replace h := it_f c1 h
  by_cases c2 : a2 = 2
  · replace h := it_t c2 h
    refine A_tableIn (t := 46) (off := 45) Γ dX1_tractorTells_1 (by rw [c2]; decide) (by rw [c2]; decide) (by rw [c2]; rfl) (by decide) ?_
    refine A_aload_n Γ dX1_tractorTells_46 0 rfl ?_
    refine g1_31 Γ Ξ dX1_tractorTells_47 ?_
    refine A_iload_n Γ dX1_tractorTells_50 1 rfl ?_
    replace h := b1 h
    obtain ⟨v5, e6, h⟩ := h
    refine r1_31 Γ Ξ e6 dX1_tractorTells_51 ?_
    obtain rfl := inj1 h
    exact hret _ _ dX1_tractorTells_52
  replace h := it_f c2 h
  by_cases c3 : a2 = 3
  · replace h := it_t c3 h
    refine A_tableIn (t := 53) (off := 52) Γ dX1_tractorTells_1 (by rw [c3]; decide) (by rw [c3]; decide) (by rw [c3]; rfl) (by decide) ?_
    refine A_aload_n Γ dX1_tractorTells_53 0 rfl ?_
    refine g1_32 Γ Ξ dX1_tractorTells_54 ?_
    refine A_iload_n Γ dX1_tractorTells_57 1 rfl ?_
    replace h := b1 h
    obtain ⟨v7, e8, h⟩ := h
    refine r1_32 Γ Ξ e8 dX1_tractorTells_58 ?_
    obtain rfl := inj1 h
    exact hret _ _ dX1_tractorTells_59
  replace h := it_f c3 h
  refine A_tableOut (t := 60) Γ dX1_tractorTells_1 (tb_out (n := 4) (by decide) (fun j hj => by match j, hj with | 0, _ => exact c0 | 1, _ => exact c1 | 2, _ => exact c2 | 3, _ => exact c3)) (by decide) ?_
  refine A_aload_n Γ dX1_tractorTells_60 0 rfl ?_
  refine g1_33 Γ Ξ dX1_tractorTells_61 ?_
  refine A_iload_n Γ dX1_tractorTells_64 1 rfl ?_
  replace h := b1 h
  obtain ⟨v9, e10, h⟩ := h
  refine r1_33 Γ Ξ e10 dX1_tractorTells_65 ?_
  obtain rfl := inj1 h
  exact hret _ _ dX1_tractorTells_66
theorem mtX1_tractorTells (l : Launch) (X : Xw) {σ : St} {a1 : Int32} {a2 : Int32} {r : Int32} (h : m_tractorTells σ a1 a2 = some r) : MetZ 1 l X yX1_tractorTells cX1_tractorTells 3 (some .int) 0 0 [.ref (xo X), .int a1, .int a2] σ (some (.int r)) σ := MetZ.ofAt (by decide) (Nat.le_of_ble_eq_true rfl) (fun G _ Γ Ξ hR hret => wkX1_tractorTells Γ Ξ hR h hret)
theorem kX1_X1tractorTells {G : Gx} {X : Xw} {cc : ByteArray} {nL pc F LO : Nat} {σ : St} {lv : List (Nat × Value)} {st : List Value} (Γ : Ok G RX1 cc nL) (Ξ : OkX 1 G X) {a1 : Int32} {a2 : Int32} {r : Int32} (hRm : Rm G F LO) (hf : 0 + 1 ≤ F) (hlo : 8 + (3 + 11) + 0 ≤ LO) (h : m_tractorTells σ a1 a2 = some r) (hW : (st.map fun v => v.category).sum ≤ 8) (d : decode cc pc = .ok (.invokevirtual 268, 3)) (kk : At G nL σ lv (.int r :: st) (pc + 3)) : At G nL σ lv (.int a2 :: .int a1 :: .ref (xo X) :: st) pc := A_callV Γ Ξ rfl rfl (mtX1_tractorTells (gl G) X h) (lw_V q1449 q1451 qs45 q64 q1452) (n := 2) (by decide +kernel) (rm_ok hRm hf hlo) (rm_k hRm) rfl rfl hW d kk
set_option maxHeartbeats 4000000 in
set_option maxRecDepth 100000 in
theorem wkX1_tractor {G : Gx} {X : Xw} {σ σ' : St} (Γ : Ok G RX1 cX1_tractor 3) (Ξ : OkX 1 G X) (hRm : Rm G 2 42) {a1 : Int32} {a2 : Int32} {r : Int32} (h : m_tractor σ a1 a2 = some (r, σ')) (hret : ∀ (pc : Nat) (lv : List (Nat × Value)), retIs cX1_tractor (some .int) (some (.int r)) pc → At G 3 σ' lv [.int r] pc) : At G 3 σ [(0, .ref (xo X)), (1, .int a1), (2, .int a2)] [] 0 := by
  rw [m_tractor] at h
  refine A_iload_n Γ dX1_tractor_0 1 rfl ?_
  replace h := b1 h
  obtain ⟨v2, e1, h⟩ := h
  refine kX1_X1isTractor Γ (kpX Ξ) hRm (by decide) (by decide) e1 (Nat.le_of_ble_eq_true rfl) dX1_tractor_1 ?_
  replace h := b2 h
  obtain ⟨σ4, x5, eJ3, h⟩ := h
  have hJJ3 : At G 3 σ4 [] [.int x5] 31 := by
    obtain ⟨rfl, rfl⟩ := inj2 h
    exact hret _ _ dX1_tractor_31
  refine A_if_eq (t := 30) Γ dX1_tractor_4 (by decide) (fun c => ?_) (fun c => ?_)
  · replace eJ3 := it_t c eJ3
    refine A_iconst (v := (-1)) Γ dX1_tractor_30 (by decide) ?_
    obtain ⟨rfl, rfl⟩ := inj2 eJ3
    exact A_sub [] rfl hJJ3
  · replace eJ3 := it_f c eJ3
    refine A_iload_n Γ dX1_tractor_7 2 rfl ?_
    refine A_iconst (v := 0) Γ dX1_tractor_8 (by decide) ?_
    refine A_iconst (v := 4) Γ dX1_tractor_9 (by decide) ?_
    replace eJ3 := b1 eJ3
    obtain ⟨v7, e6, eJ3⟩ := eJ3
    refine kX1_X1in Γ (kpX Ξ) hRm (by decide) (by decide) e6 (Nat.le_of_ble_eq_true rfl) dX1_tractor_10 ?_
    refine A_if_eq (t := 30) Γ dX1_tractor_13 (by decide) (fun c => ?_) (fun c => ?_)
    · replace eJ3 := it_t c eJ3
      refine A_iconst (v := (-1)) Γ dX1_tractor_30 (by decide) ?_
      obtain ⟨rfl, rfl⟩ := inj2 eJ3
      exact A_sub [] rfl hJJ3
    · replace eJ3 := it_f c eJ3
      refine A_aload_n Γ dX1_tractor_16 0 rfl ?_
      refine A_aload_n Γ dX1_tractor_17 0 rfl ?_
      refine A_iload_n Γ dX1_tractor_18 1 rfl ?_
      refine A_iload_n Γ dX1_tractor_19 2 rfl ?_
      replace eJ3 := b1 eJ3
      obtain ⟨v9, e8, eJ3⟩ := eJ3
      refine kX1_X1tractorTells Γ Ξ hRm (by decide) (by decide) e8 (Nat.le_of_ble_eq_true rfl) dX1_tractor_20 ?_
      refine A_iconst (v := 1) Γ dX1_tractor_23 (by decide) ?_
      replace eJ3 := b2 eJ3
      obtain ⟨v11, σ12, e10, eJ3⟩ := eJ3
      refine kX1_X1ask Γ Ξ hRm (by decide) (by decide) e10 (Nat.le_of_ble_eq_true rfl) dX1_tractor_24 ?_
      refine A_goto (t := 31) Γ dX1_tractor_27 (by decide) ?_
      obtain ⟨rfl, rfl⟩ := inj2 eJ3
      exact A_sub [] rfl hJJ3
theorem mtX1_tractor (l : Launch) (X : Xw) {σ σ' : St} {a1 : Int32} {a2 : Int32} {r : Int32} (h : m_tractor σ a1 a2 = some (r, σ')) : MetZ 1 l X yX1_tractor cX1_tractor 3 (some .int) 2 42 [.ref (xo X), .int a1, .int a2] σ (some (.int r)) σ' := MetZ.ofAt (by decide) (Nat.le_of_ble_eq_true rfl) (fun G _ Γ Ξ hR hret => wkX1_tractor Γ Ξ hR h hret)

set_option maxHeartbeats 4000000 in
set_option maxRecDepth 100000 in
theorem wkX1_lose {G : Gx} {X : Xw} {σ σ' : St} (Γ : Ok G RX1 cX1_lose 2) (Ξ : OkX 1 G X) (hRm : Rm G 2 43) {a1 : Int32} {r : Int32} (h : m_lose σ a1 = some (r, σ')) (hret : ∀ (pc : Nat) (lv : List (Nat × Value)), retIs cX1_lose (some .int) (some (.int r)) pc → At G 2 σ' lv [.int r] pc) : At G 2 σ [(0, .ref (xo X)), (1, .int a1)] [] 0 := by
  rw [m_lose] at h
  refine A_aload_n Γ dX1_lose_0 0 rfl ?_
  refine A_iload_n Γ dX1_lose_1 1 rfl ?_
  replace h := b1 h
  obtain ⟨v2, e1, h⟩ := h
  refine kX1_X1isTrailer Γ Ξ hRm (by decide) (by decide) e1 (Nat.le_of_ble_eq_true rfl) dX1_lose_2 ?_
  refine A_if_ne (t := 10) Γ dX1_lose_5 (by decide) (fun c => ?_) (fun c => ?_)
  · replace h := it_f c h
    refine A_aload_n Γ dX1_lose_10 0 rfl ?_
    refine g1_20 Γ Ξ dX1_lose_11 ?_
    refine A_iload_n Γ dX1_lose_14 1 rfl ?_
    replace h := b1 h
    obtain ⟨v3, e4, h⟩ := h
    refine r1_20 Γ Ξ e4 dX1_lose_15 ?_
    refine A_if_eq (t := 22) Γ dX1_lose_16 (by decide) (fun c => ?_) (fun c => ?_)
    · replace h := it_t c h
      refine A_aload_n Γ dX1_lose_22 0 rfl ?_
      refine g1_34 Γ Ξ dX1_lose_23 ?_
      refine A_bipush (v := 60) Γ dX1_lose_26 (by decide) ?_
      refine A_icmp_ne (t := 34) Γ dX1_lose_28 (by decide) (fun c => ?_) (fun c => ?_)
      · replace h := it_f c h
        refine A_aload_n Γ dX1_lose_34 0 rfl ?_
        refine g1_19 Γ Ξ dX1_lose_35 ?_
        refine A_iload_n Γ dX1_lose_38 1 rfl ?_
        replace h := b1 h
        obtain ⟨v5, e6, h⟩ := h
        refine r1_19 Γ Ξ e6 dX1_lose_39 ?_
        replace h := b1 h
        obtain ⟨σ8, eJ7, h⟩ := h
        have hJJ7 : At G 2 σ8 [(0, .ref (xo X)), (1, .int a1)] [] 56 := by
          refine A_aload_n Γ dX1_lose_56 0 rfl ?_
          refine g1_19 Γ Ξ dX1_lose_57 ?_
          refine A_iload_n Γ dX1_lose_60 1 rfl ?_
          refine A_bipush (v := (-9)) Γ dX1_lose_61 (by decide) ?_
          replace h := b1 h
          obtain ⟨σ13, e14, h⟩ := h
          refine w1_19 Γ Ξ e14 dX1_lose_63 ?_
          refine A_aload_n Γ dX1_lose_64 0 rfl ?_
          refine g1_18 Γ Ξ dX1_lose_65 ?_
          refine A_iload_n Γ dX1_lose_68 1 rfl ?_
          refine A_bipush (v := (-9)) Γ dX1_lose_69 (by decide) ?_
          replace h := b1 h
          obtain ⟨σ15, e16, h⟩ := h
          refine w1_18 Γ Ξ e16 dX1_lose_71 ?_
          refine A_aload_n Γ dX1_lose_72 0 rfl ?_
          refine g1_20 Γ Ξ dX1_lose_73 ?_
          refine A_iload_n Γ dX1_lose_76 1 rfl ?_
          refine A_iconst (v := 1) Γ dX1_lose_77 (by decide) ?_
          replace h := b1 h
          obtain ⟨σ17, e18, h⟩ := h
          refine w1_20 Γ Ξ e18 dX1_lose_78 ?_
          refine A_aload_n Γ dX1_lose_79 0 rfl ?_
          refine A_iload_n Γ dX1_lose_80 1 rfl ?_
          refine A_iconst (v := 2) Γ dX1_lose_81 (by decide) ?_
          refine A_bipush (v := (-9)) Γ dX1_lose_82 (by decide) ?_
          refine A_bipush (v := (-9)) Γ dX1_lose_84 (by decide) ?_
          replace h := b1 h
          obtain ⟨σ20, e19, h⟩ := h
          refine kX1_X1enter Γ Ξ hRm (by decide) (by decide) e19 (Nat.le_of_ble_eq_true rfl) dX1_lose_86 ?_
          refine A_iconst (v := 1) Γ dX1_lose_89 (by decide) ?_
          obtain ⟨rfl, rfl⟩ := inj2 h
          exact hret _ _ dX1_lose_90
        refine A_if_lt (t := 56) Γ dX1_lose_40 (by decide) (fun c => ?_) (fun c => ?_)
        · replace eJ7 := it_t c eJ7
          obtain rfl := inj1 eJ7
          exact A_sub [0, 1] rfl hJJ7
        · replace eJ7 := it_f c eJ7
          refine A_aload_n Γ dX1_lose_43 0 rfl ?_
          refine g1_31 Γ Ξ dX1_lose_44 ?_
          refine A_aload_n Γ dX1_lose_47 0 rfl ?_
          refine g1_19 Γ Ξ dX1_lose_48 ?_
          refine A_iload_n Γ dX1_lose_51 1 rfl ?_
          replace eJ7 := b1 eJ7
          obtain ⟨v9, e10, eJ7⟩ := eJ7
          refine r1_19 Γ Ξ e10 dX1_lose_52 ?_
          refine A_bipush (v := (-9)) Γ dX1_lose_53 (by decide) ?_
          replace eJ7 := b1 eJ7
          obtain ⟨σ11, e12, eJ7⟩ := eJ7
          refine w1_31 Γ Ξ e12 dX1_lose_55 ?_
          obtain rfl := inj1 eJ7
          exact A_sub [0, 1] rfl hJJ7
      · replace h := it_t c h
        refine A_bipush (v := (-2)) Γ dX1_lose_31 (by decide) ?_
        obtain ⟨rfl, rfl⟩ := inj2 h
        exact hret _ _ dX1_lose_33
    · replace h := it_f c h
      refine A_bipush (v := (-4)) Γ dX1_lose_19 (by decide) ?_
      obtain ⟨rfl, rfl⟩ := inj2 h
      exact hret _ _ dX1_lose_21
  · replace h := it_t c h
    refine A_iconst (v := (-1)) Γ dX1_lose_8 (by decide) ?_
    obtain ⟨rfl, rfl⟩ := inj2 h
    exact hret _ _ dX1_lose_9
theorem mtX1_lose (l : Launch) (X : Xw) {σ σ' : St} {a1 : Int32} {r : Int32} (h : m_lose σ a1 = some (r, σ')) : MetZ 1 l X yX1_lose cX1_lose 2 (some .int) 2 43 [.ref (xo X), .int a1] σ (some (.int r)) σ' := MetZ.ofAt (by decide) (Nat.le_of_ble_eq_true rfl) (fun G _ Γ Ξ hR hret => wkX1_lose Γ Ξ hR h hret)

set_option maxHeartbeats 4000000 in
set_option maxRecDepth 100000 in
theorem wkX1_find {G : Gx} {X : Xw} {σ σ' : St} (Γ : Ok G RX1 cX1_find 3) (Ξ : OkX 1 G X) (hRm : Rm G 2 43) {a1 : Int32} {a2 : Int32} {r : Int32} (h : m_find σ a1 a2 = some (r, σ')) (hret : ∀ (pc : Nat) (lv : List (Nat × Value)), retIs cX1_find (some .int) (some (.int r)) pc → At G 3 σ' lv [.int r] pc) : At G 3 σ [(0, .ref (xo X)), (1, .int a1), (2, .int a2)] [] 0 := by
  rw [m_find] at h
  refine A_aload_n Γ dX1_find_0 0 rfl ?_
  refine A_iload_n Γ dX1_find_1 1 rfl ?_
  replace h := b1 h
  obtain ⟨v2, e1, h⟩ := h
  refine kX1_X1isTrailer Γ Ξ hRm (by decide) (by decide) e1 (Nat.le_of_ble_eq_true rfl) dX1_find_2 ?_
  refine A_if_eq (t := 15) Γ dX1_find_5 (by decide) (fun c => ?_) (fun c => ?_)
  · replace h := it_t c h
    refine A_iconst (v := (-1)) Γ dX1_find_15 (by decide) ?_
    obtain ⟨rfl, rfl⟩ := inj2 h
    exact hret _ _ dX1_find_16
  · replace h := it_f c h
    refine A_iload_n Γ dX1_find_8 2 rfl ?_
    replace h := b1 h
    obtain ⟨v4, e3, h⟩ := h
    refine kX1_X1isYard Γ (kpX Ξ) hRm (by decide) (by decide) e3 (Nat.le_of_ble_eq_true rfl) dX1_find_9 ?_
    refine A_if_ne (t := 17) Γ dX1_find_12 (by decide) (fun c => ?_) (fun c => ?_)
    · replace h := it_f c h
      refine A_aload_n Γ dX1_find_17 0 rfl ?_
      refine g1_20 Γ Ξ dX1_find_18 ?_
      refine A_iload_n Γ dX1_find_21 1 rfl ?_
      replace h := b1 h
      obtain ⟨v5, e6, h⟩ := h
      refine r1_20 Γ Ξ e6 dX1_find_22 ?_
      refine A_if_ne (t := 29) Γ dX1_find_23 (by decide) (fun c => ?_) (fun c => ?_)
      · replace h := it_f c h
        refine A_aload_n Γ dX1_find_29 0 rfl ?_
        refine g1_34 Γ Ξ dX1_find_30 ?_
        refine A_bipush (v := 60) Γ dX1_find_33 (by decide) ?_
        refine A_icmp_ne (t := 41) Γ dX1_find_35 (by decide) (fun c => ?_) (fun c => ?_)
        · replace h := it_f c h
          refine A_aload_n Γ dX1_find_41 0 rfl ?_
          refine g1_20 Γ Ξ dX1_find_42 ?_
          refine A_iload_n Γ dX1_find_45 1 rfl ?_
          refine A_iconst (v := 0) Γ dX1_find_46 (by decide) ?_
          replace h := b1 h
          obtain ⟨σ7, e8, h⟩ := h
          refine w1_20 Γ Ξ e8 dX1_find_47 ?_
          refine A_aload_n Γ dX1_find_48 0 rfl ?_
          refine g1_18 Γ Ξ dX1_find_49 ?_
          refine A_iload_n Γ dX1_find_52 1 rfl ?_
          refine A_iload_n Γ dX1_find_53 2 rfl ?_
          replace h := b1 h
          obtain ⟨σ9, e10, h⟩ := h
          refine w1_18 Γ Ξ e10 dX1_find_54 ?_
          refine A_aload_n Γ dX1_find_55 0 rfl ?_
          refine A_iload_n Γ dX1_find_56 1 rfl ?_
          refine A_iconst (v := 0) Γ dX1_find_57 (by decide) ?_
          refine A_iload_n Γ dX1_find_58 2 rfl ?_
          refine A_iload_n Γ dX1_find_59 2 rfl ?_
          replace h := b1 h
          obtain ⟨σ12, e11, h⟩ := h
          refine kX1_X1enter Γ Ξ hRm (by decide) (by decide) e11 (Nat.le_of_ble_eq_true rfl) dX1_find_60 ?_
          refine A_iconst (v := 1) Γ dX1_find_63 (by decide) ?_
          obtain ⟨rfl, rfl⟩ := inj2 h
          exact hret _ _ dX1_find_64
        · replace h := it_t c h
          refine A_bipush (v := (-2)) Γ dX1_find_38 (by decide) ?_
          obtain ⟨rfl, rfl⟩ := inj2 h
          exact hret _ _ dX1_find_40
      · replace h := it_t c h
        refine A_bipush (v := (-4)) Γ dX1_find_26 (by decide) ?_
        obtain ⟨rfl, rfl⟩ := inj2 h
        exact hret _ _ dX1_find_28
    · replace h := it_t c h
      refine A_iconst (v := (-1)) Γ dX1_find_15 (by decide) ?_
      obtain ⟨rfl, rfl⟩ := inj2 h
      exact hret _ _ dX1_find_16
theorem mtX1_find (l : Launch) (X : Xw) {σ σ' : St} {a1 : Int32} {a2 : Int32} {r : Int32} (h : m_find σ a1 a2 = some (r, σ')) : MetZ 1 l X yX1_find cX1_find 3 (some .int) 2 43 [.ref (xo X), .int a1, .int a2] σ (some (.int r)) σ' := MetZ.ofAt (by decide) (Nat.le_of_ble_eq_true rfl) (fun G _ Γ Ξ hR hret => wkX1_find Γ Ξ hR h hret)

set_option maxHeartbeats 4000000 in
set_option maxRecDepth 100000 in
theorem wkX1_seal {G : Gx} {X : Xw} {σ σ' : St} (Γ : Ok G RX1 cX1_seal 3) (Ξ : OkX 1 G X) (hRm : Rm G 2 43) {a1 : Int32} {a2 : Int32} {r : Int32} (h : m_seal σ a1 a2 = some (r, σ')) (hret : ∀ (pc : Nat) (lv : List (Nat × Value)), retIs cX1_seal (some .int) (some (.int r)) pc → At G 3 σ' lv [.int r] pc) : At G 3 σ [(0, .ref (xo X)), (1, .int a1), (2, .int a2)] [] 0 := by
  rw [m_seal] at h
  refine A_aload_n Γ dX1_seal_0 0 rfl ?_
  refine A_iload_n Γ dX1_seal_1 1 rfl ?_
  replace h := b1 h
  obtain ⟨v2, e1, h⟩ := h
  refine kX1_X1isTrailer Γ Ξ hRm (by decide) (by decide) e1 (Nat.le_of_ble_eq_true rfl) dX1_seal_2 ?_
  refine A_if_eq (t := 17) Γ dX1_seal_5 (by decide) (fun c => ?_) (fun c => ?_)
  · replace h := it_t c h
    refine A_iconst (v := (-1)) Γ dX1_seal_17 (by decide) ?_
    obtain ⟨rfl, rfl⟩ := inj2 h
    exact hret _ _ dX1_seal_18
  · replace h := it_f c h
    refine A_iload_n Γ dX1_seal_8 2 rfl ?_
    refine A_iconst (v := 3) Γ dX1_seal_9 (by decide) ?_
    refine A_iconst (v := 5) Γ dX1_seal_10 (by decide) ?_
    replace h := b1 h
    obtain ⟨v4, e3, h⟩ := h
    refine kX1_X1in Γ (kpX Ξ) hRm (by decide) (by decide) e3 (Nat.le_of_ble_eq_true rfl) dX1_seal_11 ?_
    refine A_if_ne (t := 19) Γ dX1_seal_14 (by decide) (fun c => ?_) (fun c => ?_)
    · replace h := it_f c h
      refine A_aload_n Γ dX1_seal_19 0 rfl ?_
      refine g1_20 Γ Ξ dX1_seal_20 ?_
      refine A_iload_n Γ dX1_seal_23 1 rfl ?_
      replace h := b1 h
      obtain ⟨v5, e6, h⟩ := h
      refine r1_20 Γ Ξ e6 dX1_seal_24 ?_
      refine A_if_ne (t := 47) Γ dX1_seal_25 (by decide) (fun c => ?_) (fun c => ?_)
      · replace h := it_f c h
        refine A_bipush (v := (-4)) Γ dX1_seal_47 (by decide) ?_
        obtain ⟨rfl, rfl⟩ := inj2 h
        exact hret _ _ dX1_seal_49
      · replace h := it_t c h
        refine A_aload_n Γ dX1_seal_28 0 rfl ?_
        refine g1_26 Γ Ξ dX1_seal_29 ?_
        refine A_iload_n Γ dX1_seal_32 1 rfl ?_
        replace h := b1 h
        obtain ⟨v7, e8, h⟩ := h
        refine r1_26 Γ Ξ e8 dX1_seal_33 ?_
        refine A_iload_n Γ dX1_seal_34 2 rfl ?_
        refine A_iconst (v := 3) Γ dX1_seal_35 (by decide) ?_
        replace h := b1 h
        obtain ⟨x10, eJ9, h⟩ := h
        have hJJ9 : At G 3 σ [(0, .ref (xo X)), (1, .int a1), (2, .int a2)] [.int x10, .int v7] 44 := by
          refine A_icmp_ne (t := 50) Γ dX1_seal_44 (by decide) (fun c => ?_) (fun c => ?_)
          · replace h := it_f c h
            refine A_aload_n Γ dX1_seal_50 0 rfl ?_
            refine g1_34 Γ Ξ dX1_seal_51 ?_
            refine A_bipush (v := 60) Γ dX1_seal_54 (by decide) ?_
            refine A_icmp_ne (t := 62) Γ dX1_seal_56 (by decide) (fun c => ?_) (fun c => ?_)
            · replace h := it_f c h
              refine A_aload_n Γ dX1_seal_62 0 rfl ?_
              refine g1_26 Γ Ξ dX1_seal_63 ?_
              refine A_iload_n Γ dX1_seal_66 1 rfl ?_
              refine A_iload_n Γ dX1_seal_67 2 rfl ?_
              refine A_iconst (v := 5) Γ dX1_seal_68 (by decide) ?_
              replace h := b1 h
              obtain ⟨x12, eJ11, h⟩ := h
              have hJJ11 : At G 3 σ [(0, .ref (xo X)), (1, .int a1), (2, .int a2)] [.int x12, .int a1, .ref (xad X 26)] 77 := by
                replace h := b1 h
                obtain ⟨σ13, e14, h⟩ := h
                refine w1_26 Γ Ξ e14 dX1_seal_77 ?_
                refine A_aload_n Γ dX1_seal_78 0 rfl ?_
                refine A_iload_n Γ dX1_seal_79 1 rfl ?_
                refine A_iload_n Γ dX1_seal_80 2 rfl ?_
                refine A_bipush (v := (-9)) Γ dX1_seal_81 (by decide) ?_
                refine A_bipush (v := (-9)) Γ dX1_seal_83 (by decide) ?_
                replace h := b1 h
                obtain ⟨σ16, e15, h⟩ := h
                refine kX1_X1enter Γ Ξ hRm (by decide) (by decide) e15 (Nat.le_of_ble_eq_true rfl) dX1_seal_85 ?_
                refine A_iconst (v := 1) Γ dX1_seal_88 (by decide) ?_
                obtain ⟨rfl, rfl⟩ := inj2 h
                exact hret _ _ dX1_seal_89
              refine A_icmp_eq (t := 76) Γ dX1_seal_69 (by decide) (fun c => ?_) (fun c => ?_)
              · replace eJ11 := it_t c eJ11
                refine A_iconst (v := 0) Γ dX1_seal_76 (by decide) ?_
                obtain rfl := inj1 eJ11
                exact A_sub [0, 1, 2] rfl hJJ11
              · replace eJ11 := it_f c eJ11
                refine A_iconst (v := 1) Γ dX1_seal_72 (by decide) ?_
                refine A_goto (t := 77) Γ dX1_seal_73 (by decide) ?_
                obtain rfl := inj1 eJ11
                exact A_sub [0, 1, 2] rfl hJJ11
            · replace h := it_t c h
              refine A_bipush (v := (-2)) Γ dX1_seal_59 (by decide) ?_
              obtain ⟨rfl, rfl⟩ := inj2 h
              exact hret _ _ dX1_seal_61
          · replace h := it_t c h
            refine A_bipush (v := (-4)) Γ dX1_seal_47 (by decide) ?_
            obtain ⟨rfl, rfl⟩ := inj2 h
            exact hret _ _ dX1_seal_49
        refine A_icmp_ne (t := 43) Γ dX1_seal_36 (by decide) (fun c => ?_) (fun c => ?_)
        · replace eJ9 := it_f c eJ9
          refine A_iconst (v := 0) Γ dX1_seal_43 (by decide) ?_
          obtain rfl := inj1 eJ9
          exact A_sub [0, 1, 2] rfl hJJ9
        · replace eJ9 := it_t c eJ9
          refine A_iconst (v := 1) Γ dX1_seal_39 (by decide) ?_
          refine A_goto (t := 44) Γ dX1_seal_40 (by decide) ?_
          obtain rfl := inj1 eJ9
          exact A_sub [0, 1, 2] rfl hJJ9
    · replace h := it_t c h
      refine A_iconst (v := (-1)) Γ dX1_seal_17 (by decide) ?_
      obtain ⟨rfl, rfl⟩ := inj2 h
      exact hret _ _ dX1_seal_18
theorem mtX1_seal (l : Launch) (X : Xw) {σ σ' : St} {a1 : Int32} {a2 : Int32} {r : Int32} (h : m_seal σ a1 a2 = some (r, σ')) : MetZ 1 l X yX1_seal cX1_seal 3 (some .int) 2 43 [.ref (xo X), .int a1, .int a2] σ (some (.int r)) σ' := MetZ.ofAt (by decide) (Nat.le_of_ble_eq_true rfl) (fun G _ Γ Ξ hR hret => wkX1_seal Γ Ξ hR h hret)

set_option maxHeartbeats 4000000 in
set_option maxRecDepth 100000 in
theorem wkX1_book {G : Gx} {X : Xw} {σ : St} (Γ : Ok G RX1 cX1_book 6) (Ξ : OkX 1 G X) (hRm : Rm G 2 43) {a1 : Int32} {a2 : Int32} {a3 : Int32} {r : Int32} (h : m_book σ a1 a2 a3 = some r) (hret : ∀ (pc : Nat) (lv : List (Nat × Value)), retIs cX1_book (some .int) (some (.int r)) pc → At G 6 σ lv [.int r] pc) : At G 6 σ [(0, .ref (xo X)), (1, .int a1), (2, .int a2), (3, .int a3)] [] 0 := by
  rw [m_book] at h
  refine A_aload_n Γ dX1_book_0 0 rfl ?_
  refine A_iload_n Γ dX1_book_1 1 rfl ?_
  replace h := b1 h
  obtain ⟨v2, e1, h⟩ := h
  refine kX1_X1isTrailer Γ Ξ hRm (by decide) (by decide) e1 (Nat.le_of_ble_eq_true rfl) dX1_book_2 ?_
  refine A_if_eq (t := 17) Γ dX1_book_5 (by decide) (fun c => ?_) (fun c => ?_)
  · replace h := it_t c h
    refine A_iconst (v := (-1)) Γ dX1_book_17 (by decide) ?_
    obtain rfl := inj1 h
    exact hret _ _ dX1_book_18
  · replace h := it_f c h
    refine A_iload_n Γ dX1_book_8 3 rfl ?_
    refine A_iconst (v := 0) Γ dX1_book_9 (by decide) ?_
    refine A_iconst (v := 2) Γ dX1_book_10 (by decide) ?_
    replace h := b1 h
    obtain ⟨v4, e3, h⟩ := h
    refine kX1_X1in Γ (kpX Ξ) hRm (by decide) (by decide) e3 (Nat.le_of_ble_eq_true rfl) dX1_book_11 ?_
    refine A_if_ne (t := 19) Γ dX1_book_14 (by decide) (fun c => ?_) (fun c => ?_)
    · replace h := it_f c h
      refine A_iload_n Γ dX1_book_19 2 rfl ?_
      replace h := b1 h
      obtain ⟨x6, eJ5, h⟩ := h
      have hJJ5 : At G 6 σ [(0, .ref (xo X)), (1, .int a1), (2, .int a2), (3, .int a3)] [.int x6] 34 := by
        refine A_istore (lv' := [(4, .int x6), (0, .ref (xo X)), (1, .int a1), (2, .int a2), (3, .int a3)]) Γ dX1_book_34 (by decide) rfl ?_
        refine A_iconst (v := 0) Γ dX1_book_36 (by decide) ?_
        refine A_istore (lv' := [(5, .int 0), (4, .int x6), (0, .ref (xo X)), (1, .int a1), (2, .int a2), (3, .int a3)]) Γ dX1_book_37 (by decide) rfl ?_
        replace h := b1 h
        obtain ⟨x12, eLL9, h⟩ := h
        have hXL9 : At G 6 σ [(0, .ref (xo X)), (3, .int a3), (4, .int x12)] [] 67 := by
          refine A_iload Γ dX1_book_67 2 rfl ?_
          replace h := b1 h
          obtain ⟨x16, eJ15, h⟩ := h
          have hJJ15 : At G 6 σ [] [.int x16] 113 := by
            obtain rfl := inj1 h
            exact hret _ _ dX1_book_113
          refine A_if_ge (t := 77) Γ dX1_book_69 (by decide) (fun c => ?_) (fun c => ?_)
          · replace eJ15 := it_t c eJ15
            refine A_iload_n Γ dX1_book_77 1 rfl ?_
            refine A_if_ne (t := 91) Γ dX1_book_78 (by decide) (fun c => ?_) (fun c => ?_)
            · replace eJ15 := it_f c eJ15
              refine A_iload_n Γ dX1_book_91 1 rfl ?_
              refine A_iconst (v := 1) Γ dX1_book_92 (by decide) ?_
              refine A_icmp_ne (t := 106) Γ dX1_book_93 (by decide) (fun c => ?_) (fun c => ?_)
              · replace eJ15 := it_f c eJ15
                refine A_aload_n Γ dX1_book_106 0 rfl ?_
                refine g1_38 Γ Ξ dX1_book_107 ?_
                refine A_iload Γ dX1_book_110 2 rfl ?_
                replace eJ15 := b1 eJ15
                obtain ⟨v17, e18, eJ15⟩ := eJ15
                refine r1_38 Γ Ξ e18 dX1_book_112 ?_
                obtain rfl := inj1 eJ15
                exact A_sub [] rfl hJJ15
              · replace eJ15 := it_t c eJ15
                refine A_aload_n Γ dX1_book_96 0 rfl ?_
                refine g1_37 Γ Ξ dX1_book_97 ?_
                refine A_iload Γ dX1_book_100 2 rfl ?_
                replace eJ15 := b1 eJ15
                obtain ⟨v19, e20, eJ15⟩ := eJ15
                refine r1_37 Γ Ξ e20 dX1_book_102 ?_
                refine A_goto (t := 113) Γ dX1_book_103 (by decide) ?_
                obtain rfl := inj1 eJ15
                exact A_sub [] rfl hJJ15
            · replace eJ15 := it_t c eJ15
              refine A_aload_n Γ dX1_book_81 0 rfl ?_
              refine g1_36 Γ Ξ dX1_book_82 ?_
              refine A_iload Γ dX1_book_85 2 rfl ?_
              replace eJ15 := b1 eJ15
              obtain ⟨v21, e22, eJ15⟩ := eJ15
              refine r1_36 Γ Ξ e22 dX1_book_87 ?_
              refine A_goto (t := 113) Γ dX1_book_88 (by decide) ?_
              obtain rfl := inj1 eJ15
              exact A_sub [] rfl hJJ15
          · replace eJ15 := it_f c eJ15
            refine A_bipush (v := (-9)) Γ dX1_book_72 (by decide) ?_
            refine A_goto (t := 113) Γ dX1_book_74 (by decide) ?_
            obtain rfl := inj1 eJ15
            exact A_sub [] rfl hJJ15
        replace eLL9 := lq2_ex eLL9
        obtain ⟨nL9, eLL9⟩ := eLL9
        have hLL9 : ∀ (nL9 : Nat) (x10 : Int32) (x11 : Int32), lpf2 (m_book_L9 σ a1 a2) nL9 x10 x11 = some x12 → At G 6 σ [(0, .ref (xo X)), (1, .int a1), (2, .int a2), (3, .int a3), (4, .int x10), (5, .int x11)] [] 39 := by
          intro nL9
          induction nL9 with
          | zero => intro x10 x11 eL9; exact (lpf2_0 eL9).elim
          | succ nL9 ihL9 =>
            intro x10 x11 eL9
            replace eL9 := lpf2_s eL9
            obtain ⟨qL9, eL9, hqL9⟩ := eL9
            rw [m_book_L9] at eL9
            refine A_iload Γ dX1_book_39 5 rfl ?_
            refine A_iload_n Γ dX1_book_41 2 rfl ?_
            refine A_icmp_ge (t := 67) Γ dX1_book_42 (by decide) (fun c => ?_) (fun c => ?_)
            · replace eL9 := it_t c eL9
              obtain rfl := pr1 (lpx2 eL9 hqL9)
              exact A_sub [0, 3, 4] rfl hXL9
            · replace eL9 := it_f c eL9
              refine A_iload Γ dX1_book_45 4 rfl ?_
              refine A_if_lt (t := 67) Γ dX1_book_47 (by decide) (fun c => ?_) (fun c => ?_)
              · replace eL9 := it_t c eL9
                obtain rfl := pr1 (lpx2 eL9 hqL9)
                exact A_sub [0, 3, 4] rfl hXL9
              · replace eL9 := it_f c eL9
                refine A_aload_n Γ dX1_book_50 0 rfl ?_
                refine A_iload_n Γ dX1_book_51 1 rfl ?_
                refine A_iload Γ dX1_book_52 4 rfl ?_
                refine A_iconst (v := 1) Γ dX1_book_54 (by decide) ?_
                refine A_iadd Γ dX1_book_55 ?_
                replace eL9 := b1 eL9
                obtain ⟨v14, e13, eL9⟩ := eL9
                refine kX1_X1entryFrom Γ Ξ hRm (by decide) (by decide) e13 (Nat.le_of_ble_eq_true rfl) dX1_book_56 ?_
                refine A_istore (lv' := [(4, .int v14), (0, .ref (xo X)), (1, .int a1), (2, .int a2), (3, .int a3), (5, .int x11)]) Γ dX1_book_59 (by decide) rfl ?_
                refine A_iinc (v := x11 + 1) (lv' := [(5, .int (x11 + 1)), (4, .int v14), (0, .ref (xo X)), (1, .int a1), (2, .int a2), (3, .int a3)]) Γ dX1_book_61 5 rfl rfl (by decide) rfl ?_
                refine A_goto (t := 39) Γ dX1_book_64 (by decide) ?_
                exact A_sub [2, 3, 4, 5, 1, 0] rfl (ihL9 _ _ (lpc2 eL9 hqL9))
        exact A_sub [2, 3, 4, 5, 1, 0] rfl (hLL9 _ _ _ eLL9)
      refine A_if_ge (t := 28) Γ dX1_book_20 (by decide) (fun c => ?_) (fun c => ?_)
      · replace eJ5 := it_t c eJ5
        refine A_aload_n Γ dX1_book_28 0 rfl ?_
        refine A_iload_n Γ dX1_book_29 1 rfl ?_
        refine A_iconst (v := 0) Γ dX1_book_30 (by decide) ?_
        replace eJ5 := b1 eJ5
        obtain ⟨v8, e7, eJ5⟩ := eJ5
        refine kX1_X1entryFrom Γ Ξ hRm (by decide) (by decide) e7 (Nat.le_of_ble_eq_true rfl) dX1_book_31 ?_
        obtain rfl := inj1 eJ5
        exact A_sub [0, 1, 2, 3] rfl hJJ5
      · replace eJ5 := it_f c eJ5
        refine A_bipush (v := (-9)) Γ dX1_book_23 (by decide) ?_
        refine A_goto (t := 34) Γ dX1_book_25 (by decide) ?_
        obtain rfl := inj1 eJ5
        exact A_sub [0, 1, 2, 3] rfl hJJ5
    · replace h := it_t c h
      refine A_iconst (v := (-1)) Γ dX1_book_17 (by decide) ?_
      obtain rfl := inj1 h
      exact hret _ _ dX1_book_18
theorem mtX1_book (l : Launch) (X : Xw) {σ : St} {a1 : Int32} {a2 : Int32} {a3 : Int32} {r : Int32} (h : m_book σ a1 a2 a3 = some r) : MetZ 1 l X yX1_book cX1_book 6 (some .int) 2 43 [.ref (xo X), .int a1, .int a2, .int a3] σ (some (.int r)) σ := MetZ.ofAt (by decide) (Nat.le_of_ble_eq_true rfl) (fun G _ Γ Ξ hR hret => wkX1_book Γ Ξ hR h hret)

set_option maxHeartbeats 4000000 in
set_option maxRecDepth 100000 in
theorem wkX1_where {G : Gx} {X : Xw} {σ : St} (Γ : Ok G RX1 cX1_where 5) (Ξ : OkX 1 G X) (hRm : Rm G 2 43) {a1 : Int32} {a2 : Int32} {r : Int32} (h : m_where σ a1 a2 = some r) (hret : ∀ (pc : Nat) (lv : List (Nat × Value)), retIs cX1_where (some .int) (some (.int r)) pc → At G 5 σ lv [.int r] pc) : At G 5 σ [(0, .ref (xo X)), (1, .int a1), (2, .int a2)] [] 0 := by
  rw [m_where] at h
  refine A_aload_n Γ dX1_where_0 0 rfl ?_
  refine A_iload_n Γ dX1_where_1 1 rfl ?_
  replace h := b1 h
  obtain ⟨v2, e1, h⟩ := h
  refine kX1_X1isTrailer Γ Ξ hRm (by decide) (by decide) e1 (Nat.le_of_ble_eq_true rfl) dX1_where_2 ?_
  refine A_if_eq (t := 20) Γ dX1_where_5 (by decide) (fun c => ?_) (fun c => ?_)
  · replace h := it_t c h
    refine A_iconst (v := (-1)) Γ dX1_where_20 (by decide) ?_
    obtain rfl := inj1 h
    exact hret _ _ dX1_where_21
  · replace h := it_f c h
    refine A_iload_n Γ dX1_where_8 2 rfl ?_
    refine A_iconst (v := 0) Γ dX1_where_9 (by decide) ?_
    refine A_aload_n Γ dX1_where_10 0 rfl ?_
    refine g1_5 Γ Ξ dX1_where_11 ?_
    replace h := b1 h
    obtain ⟨v4, e3, h⟩ := h
    refine kX1_X1in Γ (kpX Ξ) hRm (by decide) (by decide) e3 (Nat.le_of_ble_eq_true rfl) dX1_where_14 ?_
    refine A_if_ne (t := 22) Γ dX1_where_17 (by decide) (fun c => ?_) (fun c => ?_)
    · replace h := it_f c h
      refine A_bipush (v := (-9)) Γ dX1_where_22 (by decide) ?_
      refine A_istore_n (lv' := [(3, .int (-9)), (0, .ref (xo X)), (1, .int a1), (2, .int a2)]) Γ dX1_where_24 (by decide) rfl ?_
      refine A_iconst (v := 0) Γ dX1_where_25 (by decide) ?_
      refine A_istore (lv' := [(4, .int 0), (3, .int (-9)), (0, .ref (xo X)), (1, .int a1), (2, .int a2)]) Γ dX1_where_26 (by decide) rfl ?_
      replace h := b1 h
      obtain ⟨x8, eLL5, h⟩ := h
      have hXL5 : At G 5 σ [(3, .int x8)] [] 123 := by
        refine A_iload_n Γ dX1_where_123 0 rfl ?_
        obtain rfl := inj1 h
        exact hret _ _ dX1_where_124
      replace eLL5 := lq2_ex eLL5
      obtain ⟨nL5, eLL5⟩ := eLL5
      have hLL5 : ∀ (nL5 : Nat) (x6 : Int32) (x7 : Int32), lpf2 (m_where_L5 σ a1 a2) nL5 x6 x7 = some x8 → At G 5 σ [(0, .ref (xo X)), (1, .int a1), (2, .int a2), (3, .int x6), (4, .int x7)] [] 28 := by
        intro nL5
        induction nL5 with
        | zero => intro x6 x7 eL5; exact (lpf2_0 eL5).elim
        | succ nL5 ihL5 =>
          intro x6 x7 eL5
          replace eL5 := lpf2_s eL5
          obtain ⟨qL5, eL5, hqL5⟩ := eL5
          rw [m_where_L5] at eL5
          refine A_iload Γ dX1_where_28 4 rfl ?_
          refine A_aload_n Γ dX1_where_30 0 rfl ?_
          refine g1_34 Γ Ξ dX1_where_31 ?_
          refine A_icmp_ge (t := 123) Γ dX1_where_34 (by decide) (fun c => ?_) (fun c => ?_)
          · replace eL5 := it_t c eL5
            obtain rfl := pr1 (lpx2 eL5 hqL5)
            exact A_sub [3] rfl hXL5
          · replace eL5 := it_f c eL5
            refine A_aload_n Γ dX1_where_37 0 rfl ?_
            refine g1_35 Γ Ξ dX1_where_38 ?_
            refine A_iload Γ dX1_where_41 4 rfl ?_
            replace eL5 := b1 eL5
            obtain ⟨v9, e10, eL5⟩ := eL5
            refine r1_35 Γ Ξ e10 dX1_where_43 ?_
            refine A_iload_n Γ dX1_where_44 1 rfl ?_
            replace eL5 := b1 eL5
            obtain ⟨x12, eJ11, eL5⟩ := eL5
            have hJJ11 : At G 5 σ [(0, .ref (xo X)), (1, .int a1), (2, .int a2), (3, .int x12), (4, .int x7)] [] 117 := by
              refine A_iinc (v := x7 + 1) (lv' := [(4, .int (x7 + 1)), (0, .ref (xo X)), (1, .int a1), (2, .int a2), (3, .int x12)]) Γ dX1_where_117 4 rfl rfl (by decide) rfl ?_
              refine A_goto (t := 28) Γ dX1_where_120 (by decide) ?_
              exact A_sub [1, 2, 3, 4, 0] rfl (ihL5 _ _ (lpc2 eL5 hqL5))
            refine A_icmp_ne (t := 117) Γ dX1_where_45 (by decide) (fun c => ?_) (fun c => ?_)
            · replace eJ11 := it_f c eJ11
              obtain rfl := inj1 eJ11
              exact A_sub [0, 1, 2, 3, 4] rfl hJJ11
            · replace eJ11 := it_t c eJ11
              refine A_aload_n Γ dX1_where_48 0 rfl ?_
              refine g1_37 Γ Ξ dX1_where_49 ?_
              refine A_iload Γ dX1_where_52 4 rfl ?_
              replace eJ11 := b1 eJ11
              obtain ⟨v13, e14, eJ11⟩ := eJ11
              refine r1_37 Γ Ξ e14 dX1_where_54 ?_
              refine A_iload_n Γ dX1_where_55 2 rfl ?_
              refine A_icmp_gt (t := 117) Γ dX1_where_56 (by decide) (fun c => ?_) (fun c => ?_)
              · replace eJ11 := it_t c eJ11
                obtain rfl := inj1 eJ11
                exact A_sub [0, 1, 2, 3, 4] rfl hJJ11
              · replace eJ11 := it_f c eJ11
                refine A_aload_n Γ dX1_where_59 0 rfl ?_
                refine g1_36 Γ Ξ dX1_where_60 ?_
                refine A_iload Γ dX1_where_63 4 rfl ?_
                replace eJ11 := b1 eJ11
                obtain ⟨v15, e16, eJ11⟩ := eJ11
                refine r1_36 Γ Ξ e16 dX1_where_65 ?_
                refine A_iconst (v := 3) Γ dX1_where_66 (by decide) ?_
                refine A_icmp_ge (t := 117) Γ dX1_where_67 (by decide) (fun c => ?_) (fun c => ?_)
                · replace eJ11 := it_t c eJ11
                  obtain rfl := inj1 eJ11
                  exact A_sub [0, 1, 2, 3, 4] rfl hJJ11
                · replace eJ11 := it_f c eJ11
                  refine A_aload_n Γ dX1_where_70 0 rfl ?_
                  refine g1_36 Γ Ξ dX1_where_71 ?_
                  refine A_iload Γ dX1_where_74 4 rfl ?_
                  replace eJ11 := b1 eJ11
                  obtain ⟨v17, e18, eJ11⟩ := eJ11
                  refine r1_36 Γ Ξ e18 dX1_where_76 ?_
                  replace eJ11 := b1 eJ11
                  obtain ⟨x20, eJ19, eJ11⟩ := eJ11
                  have hJJ19 : At G 5 σ [(0, .ref (xo X)), (1, .int a1), (2, .int a2), (4, .int x7)] [.int x20] 116 := by
                    refine A_istore_n (lv' := [(3, .int x20), (0, .ref (xo X)), (1, .int a1), (2, .int a2), (4, .int x7)]) Γ dX1_where_116 (by decide) rfl ?_
                    obtain rfl := inj1 eJ11
                    exact A_sub [1, 2, 3, 0, 4] rfl hJJ11
                  refine A_if_ne (t := 90) Γ dX1_where_77 (by decide) (fun c => ?_) (fun c => ?_)
                  · replace eJ19 := it_f c eJ19
                    refine A_aload_n Γ dX1_where_90 0 rfl ?_
                    refine g1_36 Γ Ξ dX1_where_91 ?_
                    refine A_iload Γ dX1_where_94 4 rfl ?_
                    replace eJ19 := b1 eJ19
                    obtain ⟨v21, e22, eJ19⟩ := eJ19
                    refine r1_36 Γ Ξ e22 dX1_where_96 ?_
                    refine A_iconst (v := 1) Γ dX1_where_97 (by decide) ?_
                    refine A_icmp_ne (t := 114) Γ dX1_where_98 (by decide) (fun c => ?_) (fun c => ?_)
                    · replace eJ19 := it_f c eJ19
                      refine A_bipush (v := 20) Γ dX1_where_114 (by decide) ?_
                      obtain rfl := inj1 eJ19
                      exact A_sub [0, 1, 2, 4] rfl hJJ19
                    · replace eJ19 := it_t c eJ19
                      refine A_bipush (v := 10) Γ dX1_where_101 (by decide) ?_
                      refine A_aload_n Γ dX1_where_103 0 rfl ?_
                      refine g1_38 Γ Ξ dX1_where_104 ?_
                      refine A_iload Γ dX1_where_107 4 rfl ?_
                      replace eJ19 := b1 eJ19
                      obtain ⟨v23, e24, eJ19⟩ := eJ19
                      refine r1_38 Γ Ξ e24 dX1_where_109 ?_
                      refine A_iadd Γ dX1_where_110 ?_
                      refine A_goto (t := 116) Γ dX1_where_111 (by decide) ?_
                      obtain rfl := inj1 eJ19
                      exact A_sub [0, 1, 2, 4] rfl hJJ19
                  · replace eJ19 := it_t c eJ19
                    refine A_aload_n Γ dX1_where_80 0 rfl ?_
                    refine g1_38 Γ Ξ dX1_where_81 ?_
                    refine A_iload Γ dX1_where_84 4 rfl ?_
                    replace eJ19 := b1 eJ19
                    obtain ⟨v25, e26, eJ19⟩ := eJ19
                    refine r1_38 Γ Ξ e26 dX1_where_86 ?_
                    refine A_goto (t := 116) Γ dX1_where_87 (by decide) ?_
                    obtain rfl := inj1 eJ19
                    exact A_sub [0, 1, 2, 4] rfl hJJ19
      exact A_sub [2, 3, 4, 1, 0] rfl (hLL5 _ _ _ eLL5)
    · replace h := it_t c h
      refine A_iconst (v := (-1)) Γ dX1_where_20 (by decide) ?_
      obtain rfl := inj1 h
      exact hret _ _ dX1_where_21
theorem mtX1_where (l : Launch) (X : Xw) {σ : St} {a1 : Int32} {a2 : Int32} {r : Int32} (h : m_where σ a1 a2 = some r) : MetZ 1 l X yX1_where cX1_where 5 (some .int) 2 43 [.ref (xo X), .int a1, .int a2] σ (some (.int r)) σ := MetZ.ofAt (by decide) (Nat.le_of_ble_eq_true rfl) (fun G _ Γ Ξ hR hret => wkX1_where Γ Ξ hR h hret)

set_option maxHeartbeats 4000000 in
set_option maxRecDepth 100000 in
theorem wkX1_isDigit {G : Gx} {X : Xw} {σ : St} (Γ : Ok G RX1 cX1_isDigit 1) (hkp : ∀ (H H1 : Heap), gP G σ H → (∀ q : Nat, q < H.size → H1[q]? = H[q]?) → gP G σ H1) (hRm : Rm G 1 22) {a0 : Int32} {r : Int32} (h : m_isDigit a0 = some r) (hret : ∀ (pc : Nat) (lv : List (Nat × Value)), retIs cX1_isDigit (some .boolean) (some (.int r)) pc → At G 1 σ lv [.int r] pc) : At G 1 σ [(0, .int a0)] [] 0 := by
  rw [m_isDigit] at h
  refine A_iload_n Γ dX1_isDigit_0 0 rfl ?_
  refine A_bipush (v := 48) Γ dX1_isDigit_1 (by decide) ?_
  refine A_bipush (v := 57) Γ dX1_isDigit_3 (by decide) ?_
  replace h := b1 h
  obtain ⟨v2, e1, h⟩ := h
  refine kX1_X1in Γ hkp hRm (by decide) (by decide) e1 (Nat.le_of_ble_eq_true rfl) dX1_isDigit_5 ?_
  replace h := b1 h
  obtain ⟨v4, e3, h⟩ := h
  obtain ⟨rfl, hze3⟩ := bZ_in e3
  obtain rfl := inj1 h
  exact hret _ _ ⟨dX1_isDigit_8, hze3⟩
theorem mtX1_isDigit (l : Launch) {a0 : Int32} {r : Int32} (h : m_isDigit a0 = some r) : MetS l yX1_isDigit cX1_isDigit 1 (some .boolean) 1 22 [.int a0] (some (.int r)) := MetS.ofAt ((fun _ => 0), (fun _ => 0), (fun _ _ => 0), (fun _ _ => 0), fun _ => none) (by decide) (Nat.le_of_ble_eq_true rfl) (fun G _ Γ hR hp hret => wkX1_isDigit (X := (0, (fun _ => 0), (fun _ => 0), (fun _ _ => 0), (fun _ => 0), (fun _ => True))) Γ hp hR h hret)
theorem kX1_X1isDigit {G : Gx} {cc : ByteArray} {nL pc F LO : Nat} {σ : St} {lv : List (Nat × Value)} {st : List Value} (Γ : Ok G RX1 cc nL) (hkp : ∀ (H H1 : Heap), gP G σ H → (∀ q : Nat, q < H.size → H1[q]? = H[q]?) → gP G σ H1) {a0 : Int32} {r : Int32} (hRm : Rm G F LO) (hf : 1 + 1 ≤ F) (hlo : 8 + (1 + 11) + 22 ≤ LO) (h : m_isDigit a0 = some r) (hW : (st.map fun v => v.category).sum ≤ 8) (d : decode cc pc = .ok (.invokestatic 271, 3)) (kk : At G nL σ lv (.int r :: st) (pc + 3)) : At G nL σ lv (.int a0 :: st) pc := A_callS Γ hkp rfl (mtX1_isDigit (gl G) h) (lw_S q1481 q1482 q64 q1483) (n := 1) (by decide +kernel) (rm_ok hRm hf hlo) (rm_k hRm) rfl rfl hW d kk
set_option maxHeartbeats 4000000 in
set_option maxRecDepth 100000 in
theorem wkX1_reads {G : Gx} {X : Xw} {σ σ' : St} (Γ : Ok G RX1 cX1_reads 9) (Ξ : OkX 1 G X) (hRm : Rm G 2 42) {a1 : Int32} {r : Int32} (h : m_reads σ a1 = some (r, σ')) (hret : ∀ (pc : Nat) (lv : List (Nat × Value)), retIs cX1_reads (some .int) (some (.int r)) pc → At G 9 σ' lv [.int r] pc) : At G 9 σ [(0, .ref (xo X)), (1, .int a1)] [] 0 := by
  rw [m_reads] at h
  refine A_bipush (v := 40) Γ dX1_reads_0 (by decide) ?_
  refine A_iload_n Γ dX1_reads_2 1 rfl ?_
  refine A_imul Γ dX1_reads_3 ?_
  refine A_istore_n (lv' := [(2, .int (40 * a1)), (0, .ref (xo X)), (1, .int a1)]) Γ dX1_reads_4 (by decide) rfl ?_
  refine A_aload_n Γ dX1_reads_5 1 rfl ?_
  refine g1_9 Γ Ξ dX1_reads_6 ?_
  refine A_iload_n Γ dX1_reads_9 2 rfl ?_
  replace h := b1 h
  obtain ⟨v1, e2, h⟩ := h
  refine r1_9 Γ Ξ e2 dX1_reads_10 ?_
  refine A_istore_n (lv' := [(3, .int v1), (2, .int (40 * a1)), (0, .ref (xo X)), (1, .int a1)]) Γ dX1_reads_11 (by decide) rfl ?_
  refine A_iconst (v := 0) Γ dX1_reads_12 (by decide) ?_
  refine A_istore (lv' := [(4, .int 0), (3, .int v1), (2, .int (40 * a1)), (0, .ref (xo X)), (1, .int a1)]) Γ dX1_reads_13 (by decide) rfl ?_
  replace h := b1 h
  obtain ⟨σ6, eLL3, h⟩ := h
  have hXL3 : At G 9 σ6 [(0, .ref (xo X)), (2, .int (40 * a1)), (3, .int v1)] [] 37 := by
    refine A_iconst (v := 0) Γ dX1_reads_37 (by decide) ?_
    refine A_istore (lv' := [(4, .int 0), (0, .ref (xo X)), (2, .int (40 * a1)), (3, .int v1)]) Γ dX1_reads_38 (by decide) rfl ?_
    replace h := bR1 h
    obtain ⟨qqL9, eLL9, hsL9⟩ := h
    have hXL9 : ∀ (σ12 : St), qqL9 = .inl σ12 → At G 9 σ12 [] [] 279 := by
      intro σ12 e0
      rcases hsL9 with ⟨σ12z, e1, h⟩ | ⟨r1, e1, _⟩
      · cases e0.symm.trans e1
        refine A_bipush (v := (-9)) Γ dX1_reads_279 (by decide) ?_
        obtain ⟨rfl, rfl⟩ := inj2 h
        exact hret _ _ dX1_reads_281
      · cases e0.symm.trans e1
    have hRtL9 : ∀ w : Int32 × St, qqL9 = .inr w → some w = some (r, σ') := by
      intro w e0
      rcases hsL9 with ⟨σ12z, e1, _⟩ | ⟨r1, e1, h9⟩
      · cases e0.symm.trans e1
      · cases e0.symm.trans e1; exact h9
    replace eLL9 := lq2_ex eLL9
    obtain ⟨nL9, eLL9⟩ := eLL9
    have hLL9 : ∀ (nL9 : Nat) (σ10 : St) (x11 : Int32), lpf2 (m_reads_L9 a1 v1) nL9 σ10 x11 = some qqL9 → At G 9 σ10 [(0, .ref (xo X)), (2, .int (40 * a1)), (3, .int v1), (4, .int x11)] [] 40 := by
      intro nL9
      induction nL9 with
      | zero => intro σ10 x11 eL9; exact (lpf2_0 eL9).elim
      | succ nL9 ihL9 =>
        intro σ10 x11 eL9
        replace eL9 := lpf2_s eL9
        obtain ⟨qL9, eL9, hqL9⟩ := eL9
        rw [m_reads_L9] at eL9
        refine A_iload Γ dX1_reads_40 3 rfl ?_
        refine A_iload_n Γ dX1_reads_42 2 rfl ?_
        refine A_icmp_ge (t := 279) Γ dX1_reads_43 (by decide) (fun c => ?_) (fun c => ?_)
        · replace eL9 := it_t c eL9
          exact A_sub [] rfl (hXL9 _ (lpx2 eL9 hqL9).symm)
        · replace eL9 := it_f c eL9
          refine A_aload_n Γ dX1_reads_46 0 rfl ?_
          refine g1_10 Γ Ξ dX1_reads_47 ?_
          refine A_iload_n Γ dX1_reads_50 1 rfl ?_
          refine A_iload Γ dX1_reads_51 3 rfl ?_
          refine A_iadd Γ dX1_reads_53 ?_
          replace eL9 := b1 eL9
          obtain ⟨v13, e14, eL9⟩ := eL9
          refine r1_10 Γ Ξ e14 dX1_reads_54 ?_
          refine A_istore (lv' := [(5, .int v13), (0, .ref (xo X)), (2, .int (40 * a1)), (3, .int v1), (4, .int x11)]) Γ dX1_reads_55 (by decide) rfl ?_
          refine A_iinc (v := x11 + 1) (lv' := [(4, .int (x11 + 1)), (5, .int v13), (0, .ref (xo X)), (2, .int (40 * a1)), (3, .int v1)]) Γ dX1_reads_57 4 rfl rfl (by decide) rfl ?_
          refine A_iload Γ dX1_reads_60 1 rfl ?_
          refine A_bipush (v := 32) Γ dX1_reads_62 (by decide) ?_
          refine A_icmp_ne (t := 70) Γ dX1_reads_64 (by decide) (fun c => ?_) (fun c => ?_)
          · replace eL9 := it_f c eL9
            refine A_iload Γ dX1_reads_70 1 rfl ?_
            refine A_bipush (v := 70) Γ dX1_reads_72 (by decide) ?_
            have hKK15 : m_reads_K15 a1 v1 σ10 x11 v13  = some qL9 → At G 9 σ10 [(0, .ref (xo X)), (2, .int (40 * a1)), (3, .int v1), (4, .int (x11 + 1)), (5, .int v13)] [] 103 := by
              clear eL9
              intro  eL9
              rw [m_reads_K15] at eL9
              refine A_iload Γ dX1_reads_103 4 rfl ?_
              refine A_bipush (v := 72) Γ dX1_reads_105 (by decide) ?_
              replace eL9 := b1 eL9
              obtain ⟨x17, eJ16, eL9⟩ := eL9
              have hJJ16 : At G 9 σ10 [(0, .ref (xo X)), (2, .int (40 * a1)), (3, .int v1), (4, .int (x11 + 1))] [.int x17] 140 := by
                refine A_istore (lv' := [(6, .int x17), (0, .ref (xo X)), (2, .int (40 * a1)), (3, .int v1), (4, .int (x11 + 1))]) Γ dX1_reads_140 (by decide) rfl ?_
                refine A_iload Γ dX1_reads_142 0 rfl ?_
                refine A_bipush (v := 16) Γ dX1_reads_144 (by decide) ?_
                have hKK18 : ∀ (x19 : Int32) (x20 : Int32), m_reads_K18 a1 v1 σ10 x19 x20 = some qL9 → At G 9 σ10 [(0, .ref (xo X)), (2, .int (40 * a1)), (3, .int v1), (4, .int x19), (6, .int x20)] [] 197 := by
                  clear eL9
                  intro x19 x20 eL9
                  rw [m_reads_K18] at eL9
                  refine A_iconst (v := 0) Γ dX1_reads_197 (by decide) ?_
                  refine A_istore (lv' := [(7, .int 0), (0, .ref (xo X)), (2, .int (40 * a1)), (3, .int v1), (4, .int x19), (6, .int x20)]) Γ dX1_reads_198 (by decide) rfl ?_
                  refine A_iconst (v := 0) Γ dX1_reads_200 (by decide) ?_
                  refine A_istore (lv' := [(8, .int 0), (7, .int 0), (0, .ref (xo X)), (2, .int (40 * a1)), (3, .int v1), (4, .int x19), (6, .int x20)]) Γ dX1_reads_201 (by decide) rfl ?_
                  replace eL9 := b3 eL9
                  obtain ⟨x25, x26, x27, eLL21, eL9⟩ := eL9
                  have hXL21 : At G 9 σ10 [(0, .ref (xo X)), (2, .int (40 * a1)), (3, .int v1), (4, .int x25), (6, .int x20), (7, .int x26), (8, .int x27)] [] 259 := by
                    refine A_iload Γ dX1_reads_259 5 rfl ?_
                    refine A_if_ne (t := 267) Γ dX1_reads_261 (by decide) (fun c => ?_) (fun c => ?_)
                    · replace eL9 := it_f c eL9
                      refine A_aload_n Γ dX1_reads_267 0 rfl ?_
                      refine g1_44 Γ Ξ dX1_reads_268 ?_
                      refine A_iload Γ dX1_reads_271 4 rfl ?_
                      refine A_iload Γ dX1_reads_273 6 rfl ?_
                      replace eL9 := b1 eL9
                      obtain ⟨σ34, e35, eL9⟩ := eL9
                      refine w1_44 Γ Ξ e35 dX1_reads_275 ?_
                      refine A_goto (t := 40) Γ dX1_reads_276 (by decide) ?_
                      exact A_sub [0, 1, 2, 3] rfl (ihL9 _ _ (lpc2 eL9 hqL9))
                    · replace eL9 := it_t c eL9
                      refine A_iload Γ dX1_reads_264 3 rfl ?_
                      have rL9 := hRtL9 _ (lpx2 eL9 hqL9).symm
                      obtain ⟨rfl, rfl⟩ := inj2 rL9
                      exact hret _ _ dX1_reads_266
                  replace eLL21 := lq3_ex eLL21
                  obtain ⟨nL21, eLL21⟩ := eLL21
                  have hLL21 : ∀ (nL21 : Nat) (x22 : Int32) (x23 : Int32) (x24 : Int32), lpf3 (m_reads_L21 a1 v1 σ10) nL21 x22 x23 x24 = some (x25, x26, x27) → At G 9 σ10 [(0, .ref (xo X)), (2, .int (40 * a1)), (3, .int v1), (4, .int x22), (6, .int x20), (7, .int x23), (8, .int x24)] [] 203 := by
                    intro nL21
                    induction nL21 with
                    | zero => intro x22 x23 x24 eL21; exact (lpf3_0 eL21).elim
                    | succ nL21 ihL21 =>
                      intro x22 x23 x24 eL21
                      replace eL21 := lpf3_s eL21
                      obtain ⟨qL21, eL21, hqL21⟩ := eL21
                      rw [m_reads_L21] at eL21
                      refine A_iload Γ dX1_reads_203 3 rfl ?_
                      refine A_iload_n Γ dX1_reads_205 2 rfl ?_
                      refine A_icmp_ge (t := 259) Γ dX1_reads_206 (by decide) (fun c => ?_) (fun c => ?_)
                      · replace eL21 := it_t c eL21
                        obtain ⟨rfl, rfl, rfl⟩ := pr3 (lpx3 eL21 hqL21)
                        exact A_sub [0, 1, 2, 3, 4, 5, 6] rfl hXL21
                      · replace eL21 := it_f c eL21
                        refine A_iload Γ dX1_reads_209 5 rfl ?_
                        refine A_iconst (v := 4) Γ dX1_reads_211 (by decide) ?_
                        refine A_icmp_ge (t := 259) Γ dX1_reads_212 (by decide) (fun c => ?_) (fun c => ?_)
                        · replace eL21 := it_t c eL21
                          obtain ⟨rfl, rfl, rfl⟩ := pr3 (lpx3 eL21 hqL21)
                          exact A_sub [0, 1, 2, 3, 4, 5, 6] rfl hXL21
                        · replace eL21 := it_f c eL21
                          refine A_aload_n Γ dX1_reads_215 0 rfl ?_
                          refine g1_10 Γ Ξ dX1_reads_216 ?_
                          refine A_iload_n Γ dX1_reads_219 1 rfl ?_
                          refine A_iload Γ dX1_reads_220 3 rfl ?_
                          refine A_iadd Γ dX1_reads_222 ?_
                          replace eL21 := b1 eL21
                          obtain ⟨v28, e29, eL21⟩ := eL21
                          refine r1_10 Γ Ξ e29 dX1_reads_223 ?_
                          replace eL21 := b1 eL21
                          obtain ⟨v31, e30, eL21⟩ := eL21
                          refine kX1_X1isDigit Γ (kpX Ξ) hRm (by decide) (by decide) e30 (Nat.le_of_ble_eq_true rfl) dX1_reads_224 ?_
                          refine A_if_eq (t := 259) Γ dX1_reads_227 (by decide) (fun c => ?_) (fun c => ?_)
                          · replace eL21 := it_t c eL21
                            obtain ⟨rfl, rfl, rfl⟩ := pr3 (lpx3 eL21 hqL21)
                            exact A_sub [0, 1, 2, 3, 4, 5, 6] rfl hXL21
                          · replace eL21 := it_f c eL21
                            refine A_bipush (v := 10) Γ dX1_reads_230 (by decide) ?_
                            refine A_iload Γ dX1_reads_232 6 rfl ?_
                            refine A_imul Γ dX1_reads_234 ?_
                            refine A_aload_n Γ dX1_reads_235 0 rfl ?_
                            refine g1_10 Γ Ξ dX1_reads_236 ?_
                            refine A_iload_n Γ dX1_reads_239 1 rfl ?_
                            refine A_iload Γ dX1_reads_240 3 rfl ?_
                            refine A_iadd Γ dX1_reads_242 ?_
                            replace eL21 := b1 eL21
                            obtain ⟨v32, e33, eL21⟩ := eL21
                            refine r1_10 Γ Ξ e33 dX1_reads_243 ?_
                            refine A_iadd Γ dX1_reads_244 ?_
                            refine A_bipush (v := 48) Γ dX1_reads_245 (by decide) ?_
                            refine A_isub Γ dX1_reads_247 ?_
                            refine A_istore (lv' := [(8, .int (((10 * x24) + v32) - 48)), (0, .ref (xo X)), (2, .int (40 * a1)), (3, .int v1), (4, .int x22), (6, .int x20), (7, .int x23)]) Γ dX1_reads_248 (by decide) rfl ?_
                            refine A_iinc (v := x23 + 1) (lv' := [(7, .int (x23 + 1)), (8, .int (((10 * x24) + v32) - 48)), (0, .ref (xo X)), (2, .int (40 * a1)), (3, .int v1), (4, .int x22), (6, .int x20)]) Γ dX1_reads_250 6 rfl rfl (by decide) rfl ?_
                            refine A_iinc (v := x22 + 1) (lv' := [(4, .int (x22 + 1)), (7, .int (x23 + 1)), (8, .int (((10 * x24) + v32) - 48)), (0, .ref (xo X)), (2, .int (40 * a1)), (3, .int v1), (6, .int x20)]) Γ dX1_reads_253 5 rfl rfl (by decide) rfl ?_
                            refine A_goto (t := 203) Γ dX1_reads_256 (by decide) ?_
                            exact A_sub [3, 4, 5, 0, 6, 1, 2] rfl (ihL21 _ _ _ (lpc3 eL21 hqL21))
                  exact A_sub [2, 3, 4, 5, 6, 1, 0] rfl (hLL21 _ _ _ _ eLL21)
                refine A_icmp_ge (t := 197) Γ dX1_reads_146 (by decide) (fun c => ?_) (fun c => ?_)
                · replace eL9 := it_t c eL9
                  exact A_sub [1, 2, 3, 4, 0] rfl (hKK18 _ _ eL9)
                · replace eL9 := it_f c eL9
                  refine A_iload Γ dX1_reads_149 4 rfl ?_
                  refine A_iload_n Γ dX1_reads_151 3 rfl ?_
                  refine A_icmp_eq (t := 174) Γ dX1_reads_152 (by decide) (fun c => ?_) (fun c => ?_)
                  · replace eL9 := it_t c eL9
                    refine A_iload Γ dX1_reads_174 4 rfl ?_
                    have rL9 := hRtL9 _ (lpx2 eL9 hqL9).symm
                    obtain ⟨rfl, rfl⟩ := inj2 rL9
                    exact hret _ _ dX1_reads_176
                  · replace eL9 := it_f c eL9
                    refine A_aload_n Γ dX1_reads_155 1 rfl ?_
                    refine g1_10 Γ Ξ dX1_reads_156 ?_
                    refine A_iload_n Γ dX1_reads_159 2 rfl ?_
                    refine A_iload Γ dX1_reads_160 4 rfl ?_
                    refine A_iadd Γ dX1_reads_162 ?_
                    replace eL9 := b1 eL9
                    obtain ⟨v36, e37, eL9⟩ := eL9
                    refine r1_10 Γ Ξ e37 dX1_reads_163 ?_
                    refine A_bipush (v := 48) Γ dX1_reads_164 (by decide) ?_
                    refine A_bipush (v := 55) Γ dX1_reads_166 (by decide) ?_
                    replace eL9 := b1 eL9
                    obtain ⟨v39, e38, eL9⟩ := eL9
                    refine kX1_X1in Γ (kpX Ξ) hRm (by decide) (by decide) e38 (Nat.le_of_ble_eq_true rfl) dX1_reads_168 ?_
                    refine A_if_ne (t := 177) Γ dX1_reads_171 (by decide) (fun c => ?_) (fun c => ?_)
                    · replace eL9 := it_f c eL9
                      refine A_iload Γ dX1_reads_177 0 rfl ?_
                      refine A_aload_n Γ dX1_reads_179 1 rfl ?_
                      refine g1_10 Γ Ξ dX1_reads_180 ?_
                      refine A_iload_n Γ dX1_reads_183 2 rfl ?_
                      refine A_iload Γ dX1_reads_184 4 rfl ?_
                      refine A_iadd Γ dX1_reads_186 ?_
                      replace eL9 := b1 eL9
                      obtain ⟨v40, e41, eL9⟩ := eL9
                      refine r1_10 Γ Ξ e41 dX1_reads_187 ?_
                      refine A_bipush (v := 48) Γ dX1_reads_188 (by decide) ?_
                      refine A_isub Γ dX1_reads_190 ?_
                      refine A_iadd Γ dX1_reads_191 ?_
                      refine A_istore (lv' := [(6, .int (x17 + (v40 - 48))), (0, .ref (xo X)), (2, .int (40 * a1)), (3, .int v1), (4, .int (x11 + 1))]) Γ dX1_reads_192 (by decide) rfl ?_
                      refine A_iinc (v := (x11 + 1) + 1) (lv' := [(4, .int ((x11 + 1) + 1)), (6, .int (x17 + (v40 - 48))), (0, .ref (xo X)), (2, .int (40 * a1)), (3, .int v1)]) Γ dX1_reads_194 4 rfl rfl (by decide) rfl ?_
                      exact A_sub [2, 3, 4, 0, 1] rfl (hKK18 _ _ eL9)
                    · replace eL9 := it_t c eL9
                      refine A_iload Γ dX1_reads_174 4 rfl ?_
                      have rL9 := hRtL9 _ (lpx2 eL9 hqL9).symm
                      obtain ⟨rfl, rfl⟩ := inj2 rL9
                      exact hret _ _ dX1_reads_176
              refine A_icmp_ne (t := 115) Γ dX1_reads_107 (by decide) (fun c => ?_) (fun c => ?_)
              · replace eJ16 := it_f c eJ16
                refine A_iload Γ dX1_reads_115 4 rfl ?_
                refine A_bipush (v := 82) Γ dX1_reads_117 (by decide) ?_
                refine A_icmp_ne (t := 127) Γ dX1_reads_119 (by decide) (fun c => ?_) (fun c => ?_)
                · replace eJ16 := it_f c eJ16
                  refine A_iload Γ dX1_reads_127 4 rfl ?_
                  refine A_bipush (v := 68) Γ dX1_reads_129 (by decide) ?_
                  refine A_icmp_ne (t := 139) Γ dX1_reads_131 (by decide) (fun c => ?_) (fun c => ?_)
                  · replace eJ16 := it_f c eJ16
                    refine A_iconst (v := 0) Γ dX1_reads_139 (by decide) ?_
                    obtain rfl := inj1 eJ16
                    exact A_sub [0, 1, 2, 3] rfl hJJ16
                  · replace eJ16 := it_t c eJ16
                    refine A_bipush (v := 8) Γ dX1_reads_134 (by decide) ?_
                    refine A_goto (t := 140) Γ dX1_reads_136 (by decide) ?_
                    obtain rfl := inj1 eJ16
                    exact A_sub [0, 1, 2, 3] rfl hJJ16
                · replace eJ16 := it_t c eJ16
                  refine A_bipush (v := 17) Γ dX1_reads_122 (by decide) ?_
                  refine A_goto (t := 140) Γ dX1_reads_124 (by decide) ?_
                  obtain rfl := inj1 eJ16
                  exact A_sub [0, 1, 2, 3] rfl hJJ16
              · replace eJ16 := it_t c eJ16
                refine A_bipush (v := 16) Γ dX1_reads_110 (by decide) ?_
                refine A_goto (t := 140) Γ dX1_reads_112 (by decide) ?_
                obtain rfl := inj1 eJ16
                exact A_sub [0, 1, 2, 3] rfl hJJ16
            refine A_icmp_eq (t := 103) Γ dX1_reads_74 (by decide) (fun c => ?_) (fun c => ?_)
            · replace eL9 := it_t c eL9
              exact A_sub [2, 3, 4, 0, 1] rfl (hKK15  eL9)
            · replace eL9 := it_f c eL9
              refine A_iload Γ dX1_reads_77 1 rfl ?_
              refine A_bipush (v := 68) Γ dX1_reads_79 (by decide) ?_
              refine A_icmp_eq (t := 103) Γ dX1_reads_81 (by decide) (fun c => ?_) (fun c => ?_)
              · replace eL9 := it_t c eL9
                exact A_sub [2, 3, 4, 0, 1] rfl (hKK15  eL9)
              · replace eL9 := it_f c eL9
                refine A_iload Γ dX1_reads_84 1 rfl ?_
                refine A_bipush (v := 72) Γ dX1_reads_86 (by decide) ?_
                refine A_icmp_eq (t := 103) Γ dX1_reads_88 (by decide) (fun c => ?_) (fun c => ?_)
                · replace eL9 := it_t c eL9
                  exact A_sub [2, 3, 4, 0, 1] rfl (hKK15  eL9)
                · replace eL9 := it_f c eL9
                  refine A_iload Γ dX1_reads_91 1 rfl ?_
                  refine A_bipush (v := 82) Γ dX1_reads_93 (by decide) ?_
                  refine A_icmp_eq (t := 103) Γ dX1_reads_95 (by decide) (fun c => ?_) (fun c => ?_)
                  · replace eL9 := it_t c eL9
                    exact A_sub [2, 3, 4, 0, 1] rfl (hKK15  eL9)
                  · replace eL9 := it_f c eL9
                    refine A_iload Γ dX1_reads_98 0 rfl ?_
                    refine A_iconst (v := 1) Γ dX1_reads_100 (by decide) ?_
                    refine A_isub Γ dX1_reads_101 ?_
                    have rL9 := hRtL9 _ (lpx2 eL9 hqL9).symm
                    obtain ⟨rfl, rfl⟩ := inj2 rL9
                    exact hret _ _ dX1_reads_102
          · replace eL9 := it_t c eL9
            refine A_goto (t := 40) Γ dX1_reads_67 (by decide) ?_
            exact A_sub [2, 3, 4, 0] rfl (ihL9 _ _ (lpc2 eL9 hqL9))
    exact A_sub [1, 2, 3, 0] rfl (hLL9 _ _ _ eLL9)
  replace eLL3 := lq2_ex eLL3
  obtain ⟨nL3, eLL3⟩ := eLL3
  have hLL3 : ∀ (nL3 : Nat) (σ4 : St) (x5 : Int32), lpf2 (m_reads_L3) nL3 σ4 x5 = some σ6 → At G 9 σ4 [(0, .ref (xo X)), (2, .int (40 * a1)), (3, .int v1), (4, .int x5)] [] 15 := by
    intro nL3
    induction nL3 with
    | zero => intro σ4 x5 eL3; exact (lpf2_0 eL3).elim
    | succ nL3 ihL3 =>
      intro σ4 x5 eL3
      replace eL3 := lpf2_s eL3
      obtain ⟨qL3, eL3, hqL3⟩ := eL3
      rw [m_reads_L3] at eL3
      refine A_iload Γ dX1_reads_15 3 rfl ?_
      refine A_bipush (v := 18) Γ dX1_reads_17 (by decide) ?_
      refine A_icmp_ge (t := 37) Γ dX1_reads_19 (by decide) (fun c => ?_) (fun c => ?_)
      · replace eL3 := it_t c eL3
        obtain rfl := pr1 (lpx2 eL3 hqL3)
        exact A_sub [0, 1, 2] rfl hXL3
      · replace eL3 := it_f c eL3
        refine A_aload_n Γ dX1_reads_22 0 rfl ?_
        refine g1_44 Γ Ξ dX1_reads_23 ?_
        refine A_iload Γ dX1_reads_26 3 rfl ?_
        refine A_bipush (v := (-9)) Γ dX1_reads_28 (by decide) ?_
        replace eL3 := b1 eL3
        obtain ⟨σ7, e8, eL3⟩ := eL3
        refine w1_44 Γ Ξ e8 dX1_reads_30 ?_
        refine A_iinc (v := x5 + 1) (lv' := [(4, .int (x5 + 1)), (0, .ref (xo X)), (2, .int (40 * a1)), (3, .int v1)]) Γ dX1_reads_31 3 rfl rfl (by decide) rfl ?_
        refine A_goto (t := 15) Γ dX1_reads_34 (by decide) ?_
        exact A_sub [1, 2, 3, 0] rfl (ihL3 _ _ (lpc2 eL3 hqL3))
  exact A_sub [3, 2, 1, 0] rfl (hLL3 _ _ _ eLL3)
theorem mtX1_reads (l : Launch) (X : Xw) {σ σ' : St} {a1 : Int32} {r : Int32} (h : m_reads σ a1 = some (r, σ')) : MetZ 1 l X yX1_reads cX1_reads 9 (some .int) 2 42 [.ref (xo X), .int a1] σ (some (.int r)) σ' := MetZ.ofAt (by decide) (Nat.le_of_ble_eq_true rfl) (fun G _ Γ Ξ hR hret => wkX1_reads Γ Ξ hR h hret)
theorem kX1_X1reads {G : Gx} {X : Xw} {cc : ByteArray} {nL pc F LO : Nat} {σ σ' : St} {lv : List (Nat × Value)} {st : List Value} (Γ : Ok G RX1 cc nL) (Ξ : OkX 1 G X) {a1 : Int32} {r : Int32} (hRm : Rm G F LO) (hf : 2 + 1 ≤ F) (hlo : 8 + (9 + 11) + 42 ≤ LO) (h : m_reads σ a1 = some (r, σ')) (hW : (st.map fun v => v.category).sum ≤ 8) (d : decode cc pc = .ok (.invokevirtual 274, 3)) (kk : At G nL σ' lv (.int r :: st) (pc + 3)) : At G nL σ lv (.int a1 :: .ref (xo X) :: st) pc := A_callV Γ Ξ rfl rfl (mtX1_reads (gl G) X h) (lw_V q1477 q1479 qs46 q64 q1480) (n := 1) (by decide +kernel) (rm_ok hRm hf hlo) (rm_k hRm) rfl rfl hW d kk
set_option maxHeartbeats 4000000 in
set_option maxRecDepth 100000 in
theorem wkX1_fault {G : Gx} {X : Xw} {σ σ' : St} (Γ : Ok G RX1 cX1_fault 3) (Ξ : OkX 1 G X) (hRm : Rm G 3 70) {a1 : Int32} {r : Int32} (h : m_fault σ a1 = some (r, σ')) (hret : ∀ (pc : Nat) (lv : List (Nat × Value)), retIs cX1_fault (some .int) (some (.int r)) pc → At G 3 σ' lv [.int r] pc) : At G 3 σ [(0, .ref (xo X)), (1, .int a1)] [] 0 := by
  rw [m_fault] at h
  refine A_aload_n Γ dX1_fault_0 0 rfl ?_
  refine A_iload_n Γ dX1_fault_1 1 rfl ?_
  replace h := b2 h
  obtain ⟨v2, σ3, e1, h⟩ := h
  refine kX1_X1askedText Γ Ξ hRm (by decide) (by decide) e1 (Nat.le_of_ble_eq_true rfl) dX1_fault_2 ?_
  refine A_istore_n (lv' := [(2, .int v2), (0, .ref (xo X)), (1, .int a1)]) Γ dX1_fault_5 (by decide) rfl ?_
  refine A_iload_n Γ dX1_fault_6 0 rfl ?_
  replace h := b2 h
  obtain ⟨σ5, x6, eJ4, h⟩ := h
  have hJJ4 : At G 3 σ5 [] [.int x6] 19 := by
    obtain ⟨rfl, rfl⟩ := inj2 h
    exact hret _ _ dX1_fault_19
  refine A_if_ge (t := 14) Γ dX1_fault_7 (by decide) (fun c => ?_) (fun c => ?_)
  · replace eJ4 := it_t c eJ4
    refine A_aload_n Γ dX1_fault_14 1 rfl ?_
    refine A_iload_n Γ dX1_fault_15 2 rfl ?_
    replace eJ4 := b2 eJ4
    obtain ⟨v8, σ9, e7, eJ4⟩ := eJ4
    refine kX1_X1reads Γ Ξ hRm (by decide) (by decide) e7 (Nat.le_of_ble_eq_true rfl) dX1_fault_16 ?_
    obtain ⟨rfl, rfl⟩ := inj2 eJ4
    exact A_sub [] rfl hJJ4
  · replace eJ4 := it_f c eJ4
    refine A_iload_n Γ dX1_fault_10 0 rfl ?_
    refine A_goto (t := 19) Γ dX1_fault_11 (by decide) ?_
    obtain ⟨rfl, rfl⟩ := inj2 eJ4
    exact A_sub [] rfl hJJ4
theorem mtX1_fault (l : Launch) (X : Xw) {σ σ' : St} {a1 : Int32} {r : Int32} (h : m_fault σ a1 = some (r, σ')) : MetZ 1 l X yX1_fault cX1_fault 3 (some .int) 3 70 [.ref (xo X), .int a1] σ (some (.int r)) σ' := MetZ.ofAt (by decide) (Nat.le_of_ble_eq_true rfl) (fun G _ Γ Ξ hR hret => wkX1_fault Γ Ξ hR h hret)

set_option maxHeartbeats 4000000 in
set_option maxRecDepth 100000 in
theorem wkX1_isDay {G : Gx} {X : Xw} {σ : St} (Γ : Ok G RX1 cX1_isDay 1) (hkp : ∀ (H H1 : Heap), gP G σ H → (∀ q : Nat, q < H.size → H1[q]? = H[q]?) → gP G σ H1) (hRm : Rm G 1 22) {a0 : Int32} {r : Int32} (h : m_isDay a0 = some r) (hret : ∀ (pc : Nat) (lv : List (Nat × Value)), retIs cX1_isDay (some .boolean) (some (.int r)) pc → At G 1 σ lv [.int r] pc) : At G 1 σ [(0, .int a0)] [] 0 := by
  rw [m_isDay] at h
  refine A_iload_n Γ dX1_isDay_0 0 rfl ?_
  refine A_iconst (v := 0) Γ dX1_isDay_1 (by decide) ?_
  refine A_bipush (v := 69) Γ dX1_isDay_2 (by decide) ?_
  replace h := b1 h
  obtain ⟨v2, e1, h⟩ := h
  refine kX1_X1in Γ hkp hRm (by decide) (by decide) e1 (Nat.le_of_ble_eq_true rfl) dX1_isDay_4 ?_
  replace h := b1 h
  obtain ⟨v4, e3, h⟩ := h
  obtain ⟨rfl, hze3⟩ := bZ_in e3
  obtain rfl := inj1 h
  exact hret _ _ ⟨dX1_isDay_7, hze3⟩
theorem mtX1_isDay (l : Launch) {a0 : Int32} {r : Int32} (h : m_isDay a0 = some r) : MetS l yX1_isDay cX1_isDay 1 (some .boolean) 1 22 [.int a0] (some (.int r)) := MetS.ofAt ((fun _ => 0), (fun _ => 0), (fun _ _ => 0), (fun _ _ => 0), fun _ => none) (by decide) (Nat.le_of_ble_eq_true rfl) (fun G _ Γ hR hp hret => wkX1_isDay (X := (0, (fun _ => 0), (fun _ => 0), (fun _ _ => 0), (fun _ => 0), (fun _ => True))) Γ hp hR h hret)
theorem kX1_X1isDay {G : Gx} {cc : ByteArray} {nL pc F LO : Nat} {σ : St} {lv : List (Nat × Value)} {st : List Value} (Γ : Ok G RX1 cc nL) (hkp : ∀ (H H1 : Heap), gP G σ H → (∀ q : Nat, q < H.size → H1[q]? = H[q]?) → gP G σ H1) {a0 : Int32} {r : Int32} (hRm : Rm G F LO) (hf : 1 + 1 ≤ F) (hlo : 8 + (1 + 11) + 22 ≤ LO) (h : m_isDay a0 = some r) (hW : (st.map fun v => v.category).sum ≤ 8) (d : decode cc pc = .ok (.invokestatic 277, 3)) (kk : At G nL σ lv (.int r :: st) (pc + 3)) : At G nL σ lv (.int a0 :: st) pc := A_callS Γ hkp rfl (mtX1_isDay (gl G) h) (lw_S q1488 q1489 q64 q1490) (n := 1) (by decide +kernel) (rm_ok hRm hf hlo) (rm_k hRm) rfl rfl hW d kk
set_option maxHeartbeats 4000000 in
set_option maxRecDepth 100000 in
theorem wkX1_terms {G : Gx} {X : Xw} {σ σ' : St} (Γ : Ok G RX1 cX1_terms 4) (Ξ : OkX 1 G X) (hRm : Rm G 3 70) {a1 : Int32} {a2 : Int32} {r : Int32} (h : m_terms σ a1 a2 = some (r, σ')) (hret : ∀ (pc : Nat) (lv : List (Nat × Value)), retIs cX1_terms (some .int) (some (.int r)) pc → At G 4 σ' lv [.int r] pc) : At G 4 σ [(0, .ref (xo X)), (1, .int a1), (2, .int a2)] [] 0 := by
  rw [m_terms] at h
  refine A_iload_n Γ dX1_terms_0 1 rfl ?_
  replace h := b1 h
  obtain ⟨v2, e1, h⟩ := h
  refine kX1_X1isText Γ (kpX Ξ) hRm (by decide) (by decide) e1 (Nat.le_of_ble_eq_true rfl) dX1_terms_1 ?_
  refine A_if_eq (t := 14) Γ dX1_terms_4 (by decide) (fun c => ?_) (fun c => ?_)
  · replace h := it_t c h
    refine A_iconst (v := (-1)) Γ dX1_terms_14 (by decide) ?_
    obtain ⟨rfl, rfl⟩ := inj2 h
    exact hret _ _ dX1_terms_15
  · replace h := it_f c h
    refine A_iload_n Γ dX1_terms_7 2 rfl ?_
    replace h := b1 h
    obtain ⟨v4, e3, h⟩ := h
    refine kX1_X1isDay Γ (kpX Ξ) hRm (by decide) (by decide) e3 (Nat.le_of_ble_eq_true rfl) dX1_terms_8 ?_
    refine A_if_ne (t := 16) Γ dX1_terms_11 (by decide) (fun c => ?_) (fun c => ?_)
    · replace h := it_f c h
      refine A_aload_n Γ dX1_terms_16 0 rfl ?_
      refine g1_40 Γ Ξ dX1_terms_17 ?_
      refine A_bipush (v := 20) Γ dX1_terms_20 (by decide) ?_
      refine A_icmp_ne (t := 28) Γ dX1_terms_22 (by decide) (fun c => ?_) (fun c => ?_)
      · replace h := it_f c h
        refine A_aload_n Γ dX1_terms_28 0 rfl ?_
        refine g1_9 Γ Ξ dX1_terms_29 ?_
        refine A_iload_n Γ dX1_terms_32 1 rfl ?_
        replace h := b1 h
        obtain ⟨v5, e6, h⟩ := h
        refine r1_9 Γ Ξ e6 dX1_terms_33 ?_
        refine A_if_ge (t := 43) Γ dX1_terms_34 (by decide) (fun c => ?_) (fun c => ?_)
        · replace h := it_t c h
          refine A_aload_n Γ dX1_terms_43 0 rfl ?_
          refine A_iload_n Γ dX1_terms_44 1 rfl ?_
          replace h := b2 h
          obtain ⟨v8, σ9, e7, h⟩ := h
          refine kX1_X1reads Γ Ξ hRm (by decide) (by decide) e7 (Nat.le_of_ble_eq_true rfl) dX1_terms_45 ?_
          refine A_bipush (v := (-9)) Γ dX1_terms_48 (by decide) ?_
          refine A_icmp_eq (t := 56) Γ dX1_terms_50 (by decide) (fun c => ?_) (fun c => ?_)
          · replace h := it_t c h
            refine A_aload_n Γ dX1_terms_56 0 rfl ?_
            refine g1_41 Γ Ξ dX1_terms_57 ?_
            refine A_aload_n Γ dX1_terms_60 0 rfl ?_
            refine g1_40 Γ Ξ dX1_terms_61 ?_
            refine A_aload_n Γ dX1_terms_64 0 rfl ?_
            refine g1_5 Γ Ξ dX1_terms_65 ?_
            replace h := b1 h
            obtain ⟨v11, e10, h⟩ := h
            refine kX1_X1day Γ (kpX Ξ) hRm (by decide) (by decide) e10 (Nat.le_of_ble_eq_true rfl) dX1_terms_68 ?_
            replace h := b1 h
            obtain ⟨σ12, e13, h⟩ := h
            refine w1_41 Γ Ξ e13 dX1_terms_71 ?_
            refine A_aload_n Γ dX1_terms_72 0 rfl ?_
            refine g1_42 Γ Ξ dX1_terms_73 ?_
            refine A_aload_n Γ dX1_terms_76 0 rfl ?_
            refine g1_40 Γ Ξ dX1_terms_77 ?_
            refine A_iload_n Γ dX1_terms_80 2 rfl ?_
            replace h := b1 h
            obtain ⟨σ14, e15, h⟩ := h
            refine w1_42 Γ Ξ e15 dX1_terms_81 ?_
            refine A_iconst (v := 0) Γ dX1_terms_82 (by decide) ?_
            refine A_istore_n (lv' := [(3, .int 0), (0, .ref (xo X)), (1, .int a1), (2, .int a2)]) Γ dX1_terms_83 (by decide) rfl ?_
            replace h := b1 h
            obtain ⟨σ19, eLL16, h⟩ := h
            have hXL16 : At G 4 σ19 [(0, .ref (xo X))] [] 116 := by
              refine A_aload_n Γ dX1_terms_116 0 rfl ?_
              refine A_dup Γ dX1_terms_117 rfl ?_
              refine g1_40 Γ Ξ dX1_terms_118 ?_
              refine A_iconst (v := 1) Γ dX1_terms_121 (by decide) ?_
              refine A_iadd Γ dX1_terms_122 ?_
              refine p1_40 Γ Ξ dX1_terms_123 ?_
              refine A_aload_n Γ dX1_terms_126 0 rfl ?_
              refine g1_40 Γ Ξ dX1_terms_127 ?_
              refine A_iconst (v := 1) Γ dX1_terms_130 (by decide) ?_
              refine A_isub Γ dX1_terms_131 ?_
              obtain ⟨rfl, rfl⟩ := inj2 h
              exact hret _ _ dX1_terms_132
            replace eLL16 := lq2_ex eLL16
            obtain ⟨nL16, eLL16⟩ := eLL16
            have hLL16 : ∀ (nL16 : Nat) (σ17 : St) (x18 : Int32), lpf2 (m_terms_L16) nL16 σ17 x18 = some σ19 → At G 4 σ17 [(0, .ref (xo X)), (3, .int x18)] [] 84 := by
              intro nL16
              induction nL16 with
              | zero => intro σ17 x18 eL16; exact (lpf2_0 eL16).elim
              | succ nL16 ihL16 =>
                intro σ17 x18 eL16
                replace eL16 := lpf2_s eL16
                obtain ⟨qL16, eL16, hqL16⟩ := eL16
                rw [m_terms_L16] at eL16
                refine A_iload_n Γ dX1_terms_84 1 rfl ?_
                refine A_bipush (v := 18) Γ dX1_terms_85 (by decide) ?_
                refine A_icmp_ge (t := 116) Γ dX1_terms_87 (by decide) (fun c => ?_) (fun c => ?_)
                · replace eL16 := it_t c eL16
                  obtain rfl := pr1 (lpx2 eL16 hqL16)
                  exact A_sub [0] rfl hXL16
                · replace eL16 := it_f c eL16
                  refine A_aload_n Γ dX1_terms_90 0 rfl ?_
                  refine g1_43 Γ Ξ dX1_terms_91 ?_
                  refine A_bipush (v := 18) Γ dX1_terms_94 (by decide) ?_
                  refine A_aload_n Γ dX1_terms_96 0 rfl ?_
                  refine g1_40 Γ Ξ dX1_terms_97 ?_
                  refine A_imul Γ dX1_terms_100 ?_
                  refine A_iload_n Γ dX1_terms_101 1 rfl ?_
                  refine A_iadd Γ dX1_terms_102 ?_
                  refine A_aload_n Γ dX1_terms_103 0 rfl ?_
                  refine g1_44 Γ Ξ dX1_terms_104 ?_
                  refine A_iload_n Γ dX1_terms_107 1 rfl ?_
                  replace eL16 := b1 eL16
                  obtain ⟨v20, e21, eL16⟩ := eL16
                  refine r1_44 Γ Ξ e21 dX1_terms_108 ?_
                  replace eL16 := b1 eL16
                  obtain ⟨σ22, e23, eL16⟩ := eL16
                  refine w1_43 Γ Ξ e23 dX1_terms_109 ?_
                  refine A_iinc (v := x18 + 1) (lv' := [(3, .int (x18 + 1)), (0, .ref (xo X))]) Γ dX1_terms_110 1 rfl rfl (by decide) rfl ?_
                  refine A_goto (t := 84) Γ dX1_terms_113 (by decide) ?_
                  exact A_sub [1, 0] rfl (ihL16 _ _ (lpc2 eL16 hqL16))
            exact A_sub [1, 0] rfl (hLL16 _ _ _ eLL16)
          · replace h := it_f c h
            refine A_bipush (v := (-4)) Γ dX1_terms_53 (by decide) ?_
            obtain ⟨rfl, rfl⟩ := inj2 h
            exact hret _ _ dX1_terms_55
        · replace h := it_f c h
          refine A_aload_n Γ dX1_terms_37 0 rfl ?_
          refine A_iconst (v := 1) Γ dX1_terms_38 (by decide) ?_
          replace h := b2 h
          obtain ⟨v25, σ26, e24, h⟩ := h
          refine kX1_X1meets Γ Ξ hRm (by decide) (by decide) e24 (Nat.le_of_ble_eq_true rfl) dX1_terms_39 ?_
          obtain ⟨rfl, rfl⟩ := inj2 h
          exact hret _ _ dX1_terms_42
      · replace h := it_t c h
        refine A_bipush (v := (-2)) Γ dX1_terms_25 (by decide) ?_
        obtain ⟨rfl, rfl⟩ := inj2 h
        exact hret _ _ dX1_terms_27
    · replace h := it_t c h
      refine A_iconst (v := (-1)) Γ dX1_terms_14 (by decide) ?_
      obtain ⟨rfl, rfl⟩ := inj2 h
      exact hret _ _ dX1_terms_15
theorem mtX1_terms (l : Launch) (X : Xw) {σ σ' : St} {a1 : Int32} {a2 : Int32} {r : Int32} (h : m_terms σ a1 a2 = some (r, σ')) : MetZ 1 l X yX1_terms cX1_terms 4 (some .int) 3 70 [.ref (xo X), .int a1, .int a2] σ (some (.int r)) σ' := MetZ.ofAt (by decide) (Nat.le_of_ble_eq_true rfl) (fun G _ Γ Ξ hR hret => wkX1_terms Γ Ξ hR h hret)

set_option maxHeartbeats 4000000 in
set_option maxRecDepth 100000 in
theorem wkX1_force {G : Gx} {X : Xw} {σ : St} (Γ : Ok G RX1 cX1_force 5) (Ξ : OkX 1 G X) (hRm : Rm G 2 42) {a1 : Int32} {a2 : Int32} {a3 : Int32} {a4 : Int32} {r : Int32} (h : m_force σ a1 a2 a3 a4 = some r) (hret : ∀ (pc : Nat) (lv : List (Nat × Value)), retIs cX1_force (some .int) (some (.int r)) pc → At G 5 σ lv [.int r] pc) : At G 5 σ [(0, .ref (xo X)), (1, .int a1), (2, .int a2), (3, .int a3), (4, .int a4)] [] 0 := by
  rw [m_force] at h
  refine A_iload_n Γ dX1_force_0 1 rfl ?_
  refine A_iconst (v := 0) Γ dX1_force_1 (by decide) ?_
  refine A_iconst (v := 3) Γ dX1_force_2 (by decide) ?_
  replace h := b1 h
  obtain ⟨v2, e1, h⟩ := h
  refine kX1_X1in Γ (kpX Ξ) hRm (by decide) (by decide) e1 (Nat.le_of_ble_eq_true rfl) dX1_force_3 ?_
  refine A_if_eq (t := 36) Γ dX1_force_6 (by decide) (fun c => ?_) (fun c => ?_)
  · replace h := it_t c h
    refine A_iconst (v := (-1)) Γ dX1_force_36 (by decide) ?_
    obtain rfl := inj1 h
    exact hret _ _ dX1_force_37
  · replace h := it_f c h
    refine A_iload_n Γ dX1_force_9 1 rfl ?_
    refine A_iconst (v := 2) Γ dX1_force_10 (by decide) ?_
    refine A_icmp_ge (t := 21) Γ dX1_force_11 (by decide) (fun c => ?_) (fun c => ?_)
    · replace h := it_t c h
      refine A_iload_n Γ dX1_force_21 3 rfl ?_
      replace h := b1 h
      obtain ⟨v4, e3, h⟩ := h
      refine kX1_X1isDay Γ (kpX Ξ) hRm (by decide) (by decide) e3 (Nat.le_of_ble_eq_true rfl) dX1_force_22 ?_
      refine A_if_eq (t := 36) Γ dX1_force_25 (by decide) (fun c => ?_) (fun c => ?_)
      · replace h := it_t c h
        refine A_iconst (v := (-1)) Γ dX1_force_36 (by decide) ?_
        obtain rfl := inj1 h
        exact hret _ _ dX1_force_37
      · replace h := it_f c h
        refine A_iload Γ dX1_force_28 4 rfl ?_
        replace h := b1 h
        obtain ⟨v6, e5, h⟩ := h
        refine kX1_X1isDay Γ (kpX Ξ) hRm (by decide) (by decide) e5 (Nat.le_of_ble_eq_true rfl) dX1_force_30 ?_
        refine A_if_ne (t := 38) Γ dX1_force_33 (by decide) (fun c => ?_) (fun c => ?_)
        · replace h := it_f c h
          refine A_aload_n Γ dX1_force_38 0 rfl ?_
          refine A_iload_n Γ dX1_force_39 1 rfl ?_
          refine A_iload_n Γ dX1_force_40 2 rfl ?_
          refine A_iload_n Γ dX1_force_41 3 rfl ?_
          refine A_iload Γ dX1_force_42 4 rfl ?_
          replace h := b1 h
          obtain ⟨v8, e7, h⟩ := h
          refine kX1_X1inForce Γ Ξ hRm (by decide) (by decide) e7 (Nat.le_of_ble_eq_true rfl) dX1_force_44 ?_
          obtain rfl := inj1 h
          exact hret _ _ dX1_force_47
        · replace h := it_t c h
          refine A_iconst (v := (-1)) Γ dX1_force_36 (by decide) ?_
          obtain rfl := inj1 h
          exact hret _ _ dX1_force_37
    · replace h := it_f c h
      refine A_iload_n Γ dX1_force_14 2 rfl ?_
      replace h := b1 h
      obtain ⟨v10, e9, h⟩ := h
      refine kX1_X1isYard Γ (kpX Ξ) hRm (by decide) (by decide) e9 (Nat.le_of_ble_eq_true rfl) dX1_force_15 ?_
      refine A_if_eq (t := 36) Γ dX1_force_18 (by decide) (fun c => ?_) (fun c => ?_)
      · replace h := it_t c h
        refine A_iconst (v := (-1)) Γ dX1_force_36 (by decide) ?_
        obtain rfl := inj1 h
        exact hret _ _ dX1_force_37
      · replace h := it_f c h
        refine A_iload_n Γ dX1_force_21 3 rfl ?_
        replace h := b1 h
        obtain ⟨v12, e11, h⟩ := h
        refine kX1_X1isDay Γ (kpX Ξ) hRm (by decide) (by decide) e11 (Nat.le_of_ble_eq_true rfl) dX1_force_22 ?_
        refine A_if_eq (t := 36) Γ dX1_force_25 (by decide) (fun c => ?_) (fun c => ?_)
        · replace h := it_t c h
          refine A_iconst (v := (-1)) Γ dX1_force_36 (by decide) ?_
          obtain rfl := inj1 h
          exact hret _ _ dX1_force_37
        · replace h := it_f c h
          refine A_iload Γ dX1_force_28 4 rfl ?_
          replace h := b1 h
          obtain ⟨v14, e13, h⟩ := h
          refine kX1_X1isDay Γ (kpX Ξ) hRm (by decide) (by decide) e13 (Nat.le_of_ble_eq_true rfl) dX1_force_30 ?_
          refine A_if_ne (t := 38) Γ dX1_force_33 (by decide) (fun c => ?_) (fun c => ?_)
          · replace h := it_f c h
            refine A_aload_n Γ dX1_force_38 0 rfl ?_
            refine A_iload_n Γ dX1_force_39 1 rfl ?_
            refine A_iload_n Γ dX1_force_40 2 rfl ?_
            refine A_iload_n Γ dX1_force_41 3 rfl ?_
            refine A_iload Γ dX1_force_42 4 rfl ?_
            replace h := b1 h
            obtain ⟨v16, e15, h⟩ := h
            refine kX1_X1inForce Γ Ξ hRm (by decide) (by decide) e15 (Nat.le_of_ble_eq_true rfl) dX1_force_44 ?_
            obtain rfl := inj1 h
            exact hret _ _ dX1_force_47
          · replace h := it_t c h
            refine A_iconst (v := (-1)) Γ dX1_force_36 (by decide) ?_
            obtain rfl := inj1 h
            exact hret _ _ dX1_force_37
theorem mtX1_force (l : Launch) (X : Xw) {σ : St} {a1 : Int32} {a2 : Int32} {a3 : Int32} {a4 : Int32} {r : Int32} (h : m_force σ a1 a2 a3 a4 = some r) : MetZ 1 l X yX1_force cX1_force 5 (some .int) 2 42 [.ref (xo X), .int a1, .int a2, .int a3, .int a4] σ (some (.int r)) σ := MetZ.ofAt (by decide) (Nat.le_of_ble_eq_true rfl) (fun G _ Γ Ξ hR hret => wkX1_force Γ Ξ hR h hret)

set_option maxHeartbeats 4000000 in
set_option maxRecDepth 100000 in
theorem wkX1_detention {G : Gx} {X : Xw} {σ σ' : St} (Γ : Ok G RX1 cX1_detention 7) (Ξ : OkX 1 G X) (hRm : Rm G 2 43) {a1 : Int32} {r : Int32} (h : m_detention σ a1 = some (r, σ')) (hret : ∀ (pc : Nat) (lv : List (Nat × Value)), retIs cX1_detention (some .int) (some (.int r)) pc → At G 7 σ' lv [.int r] pc) : At G 7 σ [(0, .ref (xo X)), (1, .int a1)] [] 0 := by
  rw [m_detention] at h
  refine A_aload_n Γ dX1_detention_0 0 rfl ?_
  refine A_iload_n Γ dX1_detention_1 1 rfl ?_
  replace h := b1 h
  obtain ⟨v2, e1, h⟩ := h
  refine kX1_X1isTrailer Γ Ξ hRm (by decide) (by decide) e1 (Nat.le_of_ble_eq_true rfl) dX1_detention_2 ?_
  refine A_if_ne (t := 10) Γ dX1_detention_5 (by decide) (fun c => ?_) (fun c => ?_)
  · replace h := it_f c h
    refine A_aload_n Γ dX1_detention_10 0 rfl ?_
    refine A_lconst (v := 0) Γ dX1_detention_11 (by decide) ?_
    refine p1_45 Γ Ξ dX1_detention_12 ?_
    refine A_iconst (v := 0) Γ dX1_detention_15 (by decide) ?_
    refine A_istore_n (lv' := [(2, .int 0), (0, .ref (xo X)), (1, .int a1)]) Γ dX1_detention_16 (by decide) rfl ?_
    refine A_iconst (v := 0) Γ dX1_detention_17 (by decide) ?_
    refine A_istore_n (lv' := [(3, .int 0), (2, .int 0), (0, .ref (xo X)), (1, .int a1)]) Γ dX1_detention_18 (by decide) rfl ?_
    replace h := b2 h
    obtain ⟨σ7, x8, eLL3, h⟩ := h
    have hXL3 : At G 7 σ7 [(2, .int x8)] [] 206 := by
      refine A_iload_n Γ dX1_detention_206 0 rfl ?_
      obtain ⟨rfl, rfl⟩ := inj2 h
      exact hret _ _ dX1_detention_207
    replace eLL3 := lq3_ex eLL3
    obtain ⟨nL3, eLL3⟩ := eLL3
    have hLL3 : ∀ (nL3 : Nat) (σ4 : St) (x5 : Int32) (x6 : Int32), lpf3 (m_detention_L3 a1) nL3 σ4 x5 x6 = some (σ7, x8) → At G 7 σ4 [(0, .ref (xo X)), (1, .int a1), (2, .int x5), (3, .int x6)] [] 19 := by
      intro nL3
      induction nL3 with
      | zero => intro σ4 x5 x6 eL3; exact (lpf3_0 eL3).elim
      | succ nL3 ihL3 =>
        intro σ4 x5 x6 eL3
        replace eL3 := lpf3_s eL3
        obtain ⟨qL3, eL3, hqL3⟩ := eL3
        rw [m_detention_L3] at eL3
        refine A_iload_n Γ dX1_detention_19 3 rfl ?_
        refine A_aload_n Γ dX1_detention_20 0 rfl ?_
        refine g1_34 Γ Ξ dX1_detention_21 ?_
        refine A_icmp_ge (t := 206) Γ dX1_detention_24 (by decide) (fun c => ?_) (fun c => ?_)
        · replace eL3 := it_t c eL3
          obtain ⟨rfl, rfl⟩ := pr2 (lpx3 eL3 hqL3)
          exact A_sub [2] rfl hXL3
        · replace eL3 := it_f c eL3
          refine A_aload_n Γ dX1_detention_27 0 rfl ?_
          refine g1_35 Γ Ξ dX1_detention_28 ?_
          refine A_iload_n Γ dX1_detention_31 3 rfl ?_
          replace eL3 := b1 eL3
          obtain ⟨v9, e10, eL3⟩ := eL3
          refine r1_35 Γ Ξ e10 dX1_detention_32 ?_
          refine A_iload_n Γ dX1_detention_33 1 rfl ?_
          replace eL3 := b2 eL3
          obtain ⟨σ12, x13, eJ11, eL3⟩ := eL3
          have hJJ11 : At G 7 σ12 [(0, .ref (xo X)), (1, .int a1), (2, .int x13), (3, .int x6)] [] 200 := by
            refine A_iinc (v := x6 + 1) (lv' := [(3, .int (x6 + 1)), (0, .ref (xo X)), (1, .int a1), (2, .int x13)]) Γ dX1_detention_200 3 rfl rfl (by decide) rfl ?_
            refine A_goto (t := 19) Γ dX1_detention_203 (by decide) ?_
            exact A_sub [1, 2, 3, 0] rfl (ihL3 _ _ _ (lpc3 eL3 hqL3))
          refine A_icmp_ne (t := 200) Γ dX1_detention_34 (by decide) (fun c => ?_) (fun c => ?_)
          · replace eJ11 := it_f c eJ11
            obtain ⟨rfl, rfl⟩ := inj2 eJ11
            exact A_sub [0, 1, 2, 3] rfl hJJ11
          · replace eJ11 := it_t c eJ11
            refine A_aload_n Γ dX1_detention_37 0 rfl ?_
            refine g1_36 Γ Ξ dX1_detention_38 ?_
            refine A_iload_n Γ dX1_detention_41 3 rfl ?_
            replace eJ11 := b1 eJ11
            obtain ⟨v14, e15, eJ11⟩ := eJ11
            refine r1_36 Γ Ξ e15 dX1_detention_42 ?_
            refine A_if_ne (t := 200) Γ dX1_detention_43 (by decide) (fun c => ?_) (fun c => ?_)
            · replace eJ11 := it_f c eJ11
              obtain ⟨rfl, rfl⟩ := inj2 eJ11
              exact A_sub [0, 1, 2, 3] rfl hJJ11
            · replace eJ11 := it_t c eJ11
              refine A_aload_n Γ dX1_detention_46 0 rfl ?_
              refine g1_5 Γ Ξ dX1_detention_47 ?_
              refine A_istore (lv' := [(4, .int (cI σ4 5)), (0, .ref (xo X)), (1, .int a1), (2, .int x5), (3, .int x6)]) Γ dX1_detention_50 (by decide) rfl ?_
              refine A_aload_n Γ dX1_detention_52 1 rfl ?_
              refine g1_34 Γ Ξ dX1_detention_53 ?_
              refine A_iconst (v := 1) Γ dX1_detention_56 (by decide) ?_
              refine A_isub Γ dX1_detention_57 ?_
              refine A_istore (lv' := [(5, .int ((cI σ4 34) - 1)), (4, .int (cI σ4 5)), (0, .ref (xo X)), (1, .int a1), (2, .int x5), (3, .int x6)]) Γ dX1_detention_58 (by decide) rfl ?_
              replace eJ11 := b1 eJ11
              obtain ⟨x19, eLL16, eJ11⟩ := eJ11
              have hXL16 : At G 7 σ4 [(0, .ref (xo X)), (1, .int a1), (2, .int x5), (3, .int x6), (4, .int x19)] [] 119 := by
                refine A_aload_n Γ dX1_detention_119 0 rfl ?_
                refine g1_37 Γ Ξ dX1_detention_120 ?_
                refine A_iload_n Γ dX1_detention_123 3 rfl ?_
                replace eJ11 := b1 eJ11
                obtain ⟨v32, e33, eJ11⟩ := eJ11
                refine r1_37 Γ Ξ e33 dX1_detention_124 ?_
                replace eJ11 := b1 eJ11
                obtain ⟨v35, e34, eJ11⟩ := eJ11
                refine kX1_X1day Γ (kpX Ξ) hRm (by decide) (by decide) e34 (Nat.le_of_ble_eq_true rfl) dX1_detention_125 ?_
                refine A_istore (lv' := [(5, .int v35), (0, .ref (xo X)), (1, .int a1), (2, .int x5), (3, .int x6), (4, .int x19)]) Γ dX1_detention_128 (by decide) rfl ?_
                refine A_iload Γ dX1_detention_130 5 rfl ?_
                refine A_aload_n Γ dX1_detention_132 1 rfl ?_
                refine g1_37 Γ Ξ dX1_detention_133 ?_
                refine A_iload_n Γ dX1_detention_136 4 rfl ?_
                replace eJ11 := b1 eJ11
                obtain ⟨v36, e37, eJ11⟩ := eJ11
                refine r1_37 Γ Ξ e37 dX1_detention_137 ?_
                refine A_isub Γ dX1_detention_138 ?_
                refine A_aload_n Γ dX1_detention_139 1 rfl ?_
                refine A_iconst (v := 0) Γ dX1_detention_140 (by decide) ?_
                refine A_aload_n Γ dX1_detention_141 1 rfl ?_
                refine g1_38 Γ Ξ dX1_detention_142 ?_
                refine A_iload_n Γ dX1_detention_145 4 rfl ?_
                replace eJ11 := b1 eJ11
                obtain ⟨v38, e39, eJ11⟩ := eJ11
                refine r1_38 Γ Ξ e39 dX1_detention_146 ?_
                refine A_iload Γ dX1_detention_147 0 rfl ?_
                refine A_iload Γ dX1_detention_149 0 rfl ?_
                replace eJ11 := b1 eJ11
                obtain ⟨v41, e40, eJ11⟩ := eJ11
                refine kX1_X1inForce Γ Ξ hRm (by decide) (by decide) e40 (Nat.le_of_ble_eq_true rfl) dX1_detention_151 ?_
                refine A_isub Γ dX1_detention_154 ?_
                refine A_istore (lv' := [(6, .int ((x19 - v36) - v41)), (5, .int v35), (0, .ref (xo X)), (1, .int a1), (2, .int x5), (3, .int x6), (4, .int x19)]) Γ dX1_detention_155 (by decide) rfl ?_
                refine A_iload Γ dX1_detention_157 0 rfl ?_
                refine A_if_le (t := 200) Γ dX1_detention_159 (by decide) (fun c => ?_) (fun c => ?_)
                · replace eJ11 := it_t c eJ11
                  obtain ⟨rfl, rfl⟩ := inj2 eJ11
                  exact A_sub [2, 3, 4, 5] rfl hJJ11
                · replace eJ11 := it_f c eJ11
                  refine A_iinc (v := x5 + 1) (lv' := [(2, .int (x5 + 1)), (6, .int ((x19 - v36) - v41)), (5, .int v35), (0, .ref (xo X)), (1, .int a1), (3, .int x6), (4, .int x19)]) Γ dX1_detention_162 4 rfl rfl (by decide) rfl ?_
                  refine A_aload_n Γ dX1_detention_165 3 rfl ?_
                  refine A_dup Γ dX1_detention_166 rfl ?_
                  refine g1_45 Γ Ξ dX1_detention_167 ?_
                  refine A_iload Γ dX1_detention_170 1 rfl ?_
                  refine A_bipush (v := 59) Γ dX1_detention_172 (by decide) ?_
                  refine A_iadd Γ dX1_detention_174 ?_
                  refine A_bipush (v := 60) Γ dX1_detention_175 (by decide) ?_
                  refine A_idiv Γ dX1_detention_177 (by decide) ?_
                  refine A_i2l Γ dX1_detention_178 ?_
                  refine A_aload_n Γ dX1_detention_179 3 rfl ?_
                  refine A_iconst (v := 1) Γ dX1_detention_180 (by decide) ?_
                  refine A_aload_n Γ dX1_detention_181 3 rfl ?_
                  refine g1_38 Γ Ξ dX1_detention_182 ?_
                  refine A_iload_n Γ dX1_detention_185 5 rfl ?_
                  replace eJ11 := b1 eJ11
                  obtain ⟨v42, e43, eJ11⟩ := eJ11
                  refine r1_38 Γ Ξ e43 dX1_detention_186 ?_
                  refine A_iload Γ dX1_detention_187 2 rfl ?_
                  refine A_iload Γ dX1_detention_189 2 rfl ?_
                  replace eJ11 := b1 eJ11
                  obtain ⟨v45, e44, eJ11⟩ := eJ11
                  refine kX1_X1inForce Γ Ξ hRm (by decide) (by decide) e44 (Nat.le_of_ble_eq_true rfl) dX1_detention_191 ?_
                  refine A_i2l Γ dX1_detention_194 ?_
                  refine A_lmul Γ dX1_detention_195 ?_
                  refine A_ladd Γ dX1_detention_196 ?_
                  refine p1_45 Γ Ξ dX1_detention_197 ?_
                  obtain ⟨rfl, rfl⟩ := inj2 eJ11
                  exact A_sub [3, 4, 0, 5] rfl hJJ11
              replace eLL16 := lq2_ex eLL16
              obtain ⟨nL16, eLL16⟩ := eLL16
              have hLL16 : ∀ (nL16 : Nat) (x17 : Int32) (x18 : Int32), lpf2 (m_detention_L16 a1 σ4 x6) nL16 x17 x18 = some x19 → At G 7 σ4 [(0, .ref (xo X)), (1, .int a1), (2, .int x5), (3, .int x6), (4, .int x17), (5, .int x18)] [] 60 := by
                intro nL16
                induction nL16 with
                | zero => intro x17 x18 eL16; exact (lpf2_0 eL16).elim
                | succ nL16 ihL16 =>
                  intro x17 x18 eL16
                  replace eL16 := lpf2_s eL16
                  obtain ⟨qL16, eL16, hqL16⟩ := eL16
                  rw [m_detention_L16] at eL16
                  refine A_iload Γ dX1_detention_60 5 rfl ?_
                  refine A_iload_n Γ dX1_detention_62 3 rfl ?_
                  refine A_icmp_le (t := 119) Γ dX1_detention_63 (by decide) (fun c => ?_) (fun c => ?_)
                  · replace eL16 := it_t c eL16
                    obtain rfl := pr1 (lpx2 eL16 hqL16)
                    exact A_sub [0, 1, 2, 3, 4] rfl hXL16
                  · replace eL16 := it_f c eL16
                    refine A_aload_n Γ dX1_detention_66 0 rfl ?_
                    refine g1_35 Γ Ξ dX1_detention_67 ?_
                    refine A_iload Γ dX1_detention_70 5 rfl ?_
                    replace eL16 := b1 eL16
                    obtain ⟨v20, e21, eL16⟩ := eL16
                    refine r1_35 Γ Ξ e21 dX1_detention_72 ?_
                    refine A_iload_n Γ dX1_detention_73 1 rfl ?_
                    replace eL16 := b1 eL16
                    obtain ⟨x23, eJ22, eL16⟩ := eL16
                    have hJJ22 : At G 7 σ4 [(0, .ref (xo X)), (1, .int a1), (2, .int x5), (3, .int x6), (5, .int x18)] [.int x23] 111 := by
                      refine A_istore (lv' := [(4, .int x23), (0, .ref (xo X)), (1, .int a1), (2, .int x5), (3, .int x6), (5, .int x18)]) Γ dX1_detention_111 (by decide) rfl ?_
                      refine A_iinc (v := x18 + (-1)) (lv' := [(5, .int (x18 + (-1))), (4, .int x23), (0, .ref (xo X)), (1, .int a1), (2, .int x5), (3, .int x6)]) Γ dX1_detention_113 5 rfl rfl (by decide) rfl ?_
                      refine A_goto (t := 60) Γ dX1_detention_116 (by decide) ?_
                      exact A_sub [2, 3, 4, 5, 1, 0] rfl (ihL16 _ _ (lpc2 eL16 hqL16))
                    refine A_icmp_ne (t := 109) Γ dX1_detention_74 (by decide) (fun c => ?_) (fun c => ?_)
                    · replace eJ22 := it_f c eJ22
                      refine A_iload Γ dX1_detention_109 4 rfl ?_
                      obtain rfl := inj1 eJ22
                      exact A_sub [0, 1, 2, 3, 5] rfl hJJ22
                    · replace eJ22 := it_t c eJ22
                      refine A_aload_n Γ dX1_detention_77 0 rfl ?_
                      refine g1_36 Γ Ξ dX1_detention_78 ?_
                      refine A_iload Γ dX1_detention_81 5 rfl ?_
                      replace eJ22 := b1 eJ22
                      obtain ⟨v24, e25, eJ22⟩ := eJ22
                      refine r1_36 Γ Ξ e25 dX1_detention_83 ?_
                      refine A_iconst (v := 1) Γ dX1_detention_84 (by decide) ?_
                      refine A_icmp_eq (t := 99) Γ dX1_detention_85 (by decide) (fun c => ?_) (fun c => ?_)
                      · replace eJ22 := it_t c eJ22
                        refine A_aload_n Γ dX1_detention_99 0 rfl ?_
                        refine g1_37 Γ Ξ dX1_detention_100 ?_
                        refine A_iload Γ dX1_detention_103 5 rfl ?_
                        replace eJ22 := b1 eJ22
                        obtain ⟨v26, e27, eJ22⟩ := eJ22
                        refine r1_37 Γ Ξ e27 dX1_detention_105 ?_
                        refine A_goto (t := 111) Γ dX1_detention_106 (by decide) ?_
                        obtain rfl := inj1 eJ22
                        exact A_sub [0, 1, 2, 3, 5] rfl hJJ22
                      · replace eJ22 := it_f c eJ22
                        refine A_aload_n Γ dX1_detention_88 0 rfl ?_
                        refine g1_36 Γ Ξ dX1_detention_89 ?_
                        refine A_iload Γ dX1_detention_92 5 rfl ?_
                        replace eJ22 := b1 eJ22
                        obtain ⟨v28, e29, eJ22⟩ := eJ22
                        refine r1_36 Γ Ξ e29 dX1_detention_94 ?_
                        refine A_iconst (v := 2) Γ dX1_detention_95 (by decide) ?_
                        refine A_icmp_ne (t := 109) Γ dX1_detention_96 (by decide) (fun c => ?_) (fun c => ?_)
                        · replace eJ22 := it_f c eJ22
                          refine A_iload Γ dX1_detention_109 4 rfl ?_
                          obtain rfl := inj1 eJ22
                          exact A_sub [0, 1, 2, 3, 5] rfl hJJ22
                        · replace eJ22 := it_t c eJ22
                          refine A_aload_n Γ dX1_detention_99 0 rfl ?_
                          refine g1_37 Γ Ξ dX1_detention_100 ?_
                          refine A_iload Γ dX1_detention_103 5 rfl ?_
                          replace eJ22 := b1 eJ22
                          obtain ⟨v30, e31, eJ22⟩ := eJ22
                          refine r1_37 Γ Ξ e31 dX1_detention_105 ?_
                          refine A_goto (t := 111) Γ dX1_detention_106 (by decide) ?_
                          obtain rfl := inj1 eJ22
                          exact A_sub [0, 1, 2, 3, 5] rfl hJJ22
              exact A_sub [2, 3, 4, 5, 1, 0] rfl (hLL16 _ _ _ eLL16)
    exact A_sub [2, 3, 1, 0] rfl (hLL3 _ _ _ _ eLL3)
  · replace h := it_t c h
    refine A_iconst (v := (-1)) Γ dX1_detention_8 (by decide) ?_
    obtain ⟨rfl, rfl⟩ := inj2 h
    exact hret _ _ dX1_detention_9
theorem mtX1_detention (l : Launch) (X : Xw) {σ σ' : St} {a1 : Int32} {r : Int32} (h : m_detention σ a1 = some (r, σ')) : MetZ 1 l X yX1_detention cX1_detention 7 (some .int) 2 43 [.ref (xo X), .int a1] σ (some (.int r)) σ' := MetZ.ofAt (by decide) (Nat.le_of_ble_eq_true rfl) (fun G _ Γ Ξ hR hret => wkX1_detention Γ Ξ hR h hret)

set_option maxHeartbeats 4000000 in
set_option maxRecDepth 100000 in
theorem wkX1_pence {G : Gx} {X : Xw} {σ : St} (Γ : Ok G RX1 cX1_pence 1) (Ξ : OkX 1 G X) (hRm : Rm G 0 0)  {r : Int64} (h : m_pence σ = some r) (hret : ∀ (pc : Nat) (lv : List (Nat × Value)), retIs cX1_pence (some .long) (some (.long r)) pc → At G 1 σ lv [.long r] pc) : At G 1 σ [(0, .ref (xo X))] [] 0 := by
  rw [m_pence] at h
  refine A_aload_n Γ dX1_pence_0 0 rfl ?_
  refine g1_45 Γ Ξ dX1_pence_1 ?_
  obtain rfl := inj1 h
  exact hret _ _ dX1_pence_4
theorem mtX1_pence (l : Launch) (X : Xw) {σ : St}  {r : Int64} (h : m_pence σ = some r) : MetZ 1 l X yX1_pence cX1_pence 1 (some .long) 0 0 [.ref (xo X)] σ (some (.long r)) σ := MetZ.ofAt (by decide) (Nat.le_of_ble_eq_true rfl) (fun G _ Γ Ξ hR hret => wkX1_pence Γ Ξ hR h hret)

set_option maxHeartbeats 4000000 in
set_option maxRecDepth 100000 in
theorem wkX1_law {G : Gx} {X : Xw} {σ σ' : St} (Γ : Ok G RX1 cX1_law 3) (Ξ : OkX 1 G X) (hRm : Rm G 2 42) {a1 : Int32} {a2 : Int32} {r : Int32} (h : m_law σ a1 a2 = some (r, σ')) (hret : ∀ (pc : Nat) (lv : List (Nat × Value)), retIs cX1_law (some .int) (some (.int r)) pc → At G 3 σ' lv [.int r] pc) : At G 3 σ [(0, .ref (xo X)), (1, .int a1), (2, .int a2)] [] 0 := by
  rw [m_law] at h
  refine A_iload_n Γ dX1_law_0 1 rfl ?_
  replace h := b1 h
  obtain ⟨v2, e1, h⟩ := h
  refine kX1_X1isWorth Γ (kpX Ξ) hRm (by decide) (by decide) e1 (Nat.le_of_ble_eq_true rfl) dX1_law_1 ?_
  refine A_if_eq (t := 14) Γ dX1_law_4 (by decide) (fun c => ?_) (fun c => ?_)
  · replace h := it_t c h
    refine A_iconst (v := (-1)) Γ dX1_law_14 (by decide) ?_
    obtain ⟨rfl, rfl⟩ := inj2 h
    exact hret _ _ dX1_law_15
  · replace h := it_f c h
    refine A_iload_n Γ dX1_law_7 2 rfl ?_
    replace h := b1 h
    obtain ⟨v4, e3, h⟩ := h
    refine kX1_X1isWorth Γ (kpX Ξ) hRm (by decide) (by decide) e3 (Nat.le_of_ble_eq_true rfl) dX1_law_8 ?_
    refine A_if_ne (t := 16) Γ dX1_law_11 (by decide) (fun c => ?_) (fun c => ?_)
    · replace h := it_f c h
      refine A_aload_n Γ dX1_law_16 0 rfl ?_
      refine A_iload_n Γ dX1_law_17 1 rfl ?_
      refine p1_46 Γ Ξ dX1_law_18 ?_
      refine A_aload_n Γ dX1_law_21 0 rfl ?_
      refine A_iload_n Γ dX1_law_22 2 rfl ?_
      refine p1_47 Γ Ξ dX1_law_23 ?_
      refine A_iconst (v := 1) Γ dX1_law_26 (by decide) ?_
      obtain ⟨rfl, rfl⟩ := inj2 h
      exact hret _ _ dX1_law_27
    · replace h := it_t c h
      refine A_iconst (v := (-1)) Γ dX1_law_14 (by decide) ?_
      obtain ⟨rfl, rfl⟩ := inj2 h
      exact hret _ _ dX1_law_15
theorem mtX1_law (l : Launch) (X : Xw) {σ σ' : St} {a1 : Int32} {a2 : Int32} {r : Int32} (h : m_law σ a1 a2 = some (r, σ')) : MetZ 1 l X yX1_law cX1_law 3 (some .int) 2 42 [.ref (xo X), .int a1, .int a2] σ (some (.int r)) σ' := MetZ.ofAt (by decide) (Nat.le_of_ble_eq_true rfl) (fun G _ Γ Ξ hR hret => wkX1_law Γ Ξ hR h hret)

set_option maxHeartbeats 4000000 in
set_option maxRecDepth 100000 in
theorem wkX1_load {G : Gx} {X : Xw} {σ σ' : St} (Γ : Ok G RX1 cX1_load 4) (Ξ : OkX 1 G X) (hRm : Rm G 2 43) {a1 : Int32} {a2 : Int32} {a3 : Int32} {r : Int32} (h : m_load σ a1 a2 a3 = some (r, σ')) (hret : ∀ (pc : Nat) (lv : List (Nat × Value)), retIs cX1_load (some .int) (some (.int r)) pc → At G 4 σ' lv [.int r] pc) : At G 4 σ [(0, .ref (xo X)), (1, .int a1), (2, .int a2), (3, .int a3)] [] 0 := by
  rw [m_load] at h
  refine A_aload_n Γ dX1_load_0 0 rfl ?_
  refine A_iload_n Γ dX1_load_1 1 rfl ?_
  replace h := b1 h
  obtain ⟨v2, e1, h⟩ := h
  refine kX1_X1isTrailer Γ Ξ hRm (by decide) (by decide) e1 (Nat.le_of_ble_eq_true rfl) dX1_load_2 ?_
  refine A_if_eq (t := 30) Γ dX1_load_5 (by decide) (fun c => ?_) (fun c => ?_)
  · replace h := it_t c h
    refine A_iconst (v := (-1)) Γ dX1_load_30 (by decide) ?_
    obtain ⟨rfl, rfl⟩ := inj2 h
    exact hret _ _ dX1_load_31
  · replace h := it_f c h
    refine A_iload_n Γ dX1_load_8 2 rfl ?_
    refine A_iconst (v := 1) Γ dX1_load_9 (by decide) ?_
    refine A_sipush (v := 20000) Γ dX1_load_10 (by decide) ?_
    replace h := b1 h
    obtain ⟨v4, e3, h⟩ := h
    refine kX1_X1in Γ (kpX Ξ) hRm (by decide) (by decide) e3 (Nat.le_of_ble_eq_true rfl) dX1_load_13 ?_
    refine A_if_eq (t := 30) Γ dX1_load_16 (by decide) (fun c => ?_) (fun c => ?_)
    · replace h := it_t c h
      refine A_iconst (v := (-1)) Γ dX1_load_30 (by decide) ?_
      obtain ⟨rfl, rfl⟩ := inj2 h
      exact hret _ _ dX1_load_31
    · replace h := it_f c h
      refine A_iload_n Γ dX1_load_19 3 rfl ?_
      refine A_iconst (v := 0) Γ dX1_load_20 (by decide) ?_
      refine A_sipush (v := 130) Γ dX1_load_21 (by decide) ?_
      replace h := b1 h
      obtain ⟨v6, e5, h⟩ := h
      refine kX1_X1in Γ (kpX Ξ) hRm (by decide) (by decide) e5 (Nat.le_of_ble_eq_true rfl) dX1_load_24 ?_
      refine A_if_ne (t := 32) Γ dX1_load_27 (by decide) (fun c => ?_) (fun c => ?_)
      · replace h := it_f c h
        refine A_aload_n Γ dX1_load_32 0 rfl ?_
        refine g1_23 Γ Ξ dX1_load_33 ?_
        refine A_iload_n Γ dX1_load_36 1 rfl ?_
        replace h := b1 h
        obtain ⟨v7, e8, h⟩ := h
        refine r1_23 Γ Ξ e8 dX1_load_37 ?_
        refine A_bipush (v := 6) Γ dX1_load_38 (by decide) ?_
        refine A_icmp_ne (t := 46) Γ dX1_load_40 (by decide) (fun c => ?_) (fun c => ?_)
        · replace h := it_f c h
          refine A_aload_n Γ dX1_load_46 0 rfl ?_
          refine g1_24 Γ Ξ dX1_load_47 ?_
          refine A_bipush (v := 6) Γ dX1_load_50 (by decide) ?_
          refine A_iload_n Γ dX1_load_52 1 rfl ?_
          refine A_imul Γ dX1_load_53 ?_
          refine A_aload_n Γ dX1_load_54 0 rfl ?_
          refine g1_23 Γ Ξ dX1_load_55 ?_
          refine A_iload_n Γ dX1_load_58 1 rfl ?_
          replace h := b1 h
          obtain ⟨v9, e10, h⟩ := h
          refine r1_23 Γ Ξ e10 dX1_load_59 ?_
          refine A_iadd Γ dX1_load_60 ?_
          refine A_iload_n Γ dX1_load_61 2 rfl ?_
          replace h := b1 h
          obtain ⟨σ11, e12, h⟩ := h
          refine w1_24 Γ Ξ e12 dX1_load_62 ?_
          refine A_aload_n Γ dX1_load_63 0 rfl ?_
          refine g1_25 Γ Ξ dX1_load_64 ?_
          refine A_bipush (v := 6) Γ dX1_load_67 (by decide) ?_
          refine A_iload_n Γ dX1_load_69 1 rfl ?_
          refine A_imul Γ dX1_load_70 ?_
          refine A_aload_n Γ dX1_load_71 0 rfl ?_
          refine g1_23 Γ Ξ dX1_load_72 ?_
          refine A_iload_n Γ dX1_load_75 1 rfl ?_
          replace h := b1 h
          obtain ⟨v13, e14, h⟩ := h
          refine r1_23 Γ Ξ e14 dX1_load_76 ?_
          refine A_iadd Γ dX1_load_77 ?_
          refine A_iload_n Γ dX1_load_78 3 rfl ?_
          replace h := b1 h
          obtain ⟨σ15, e16, h⟩ := h
          refine w1_25 Γ Ξ e16 dX1_load_79 ?_
          refine A_aload_n Γ dX1_load_80 0 rfl ?_
          refine g1_23 Γ Ξ dX1_load_81 ?_
          refine A_iload_n Γ dX1_load_84 1 rfl ?_
          refine A_dup2 Γ dX1_load_85 rfl rfl ?_
          replace h := b1 h
          obtain ⟨v17, e18, h⟩ := h
          refine r1_23 Γ Ξ e18 dX1_load_86 ?_
          refine A_iconst (v := 1) Γ dX1_load_87 (by decide) ?_
          refine A_iadd Γ dX1_load_88 ?_
          replace h := b1 h
          obtain ⟨σ19, e20, h⟩ := h
          refine w1_23 Γ Ξ e20 dX1_load_89 ?_
          refine A_aload_n Γ dX1_load_90 0 rfl ?_
          refine g1_23 Γ Ξ dX1_load_91 ?_
          refine A_iload_n Γ dX1_load_94 1 rfl ?_
          replace h := b1 h
          obtain ⟨v21, e22, h⟩ := h
          refine r1_23 Γ Ξ e22 dX1_load_95 ?_
          obtain ⟨rfl, rfl⟩ := inj2 h
          exact hret _ _ dX1_load_96
        · replace h := it_t c h
          refine A_bipush (v := (-2)) Γ dX1_load_43 (by decide) ?_
          obtain ⟨rfl, rfl⟩ := inj2 h
          exact hret _ _ dX1_load_45
      · replace h := it_t c h
        refine A_iconst (v := (-1)) Γ dX1_load_30 (by decide) ?_
        obtain ⟨rfl, rfl⟩ := inj2 h
        exact hret _ _ dX1_load_31
theorem mtX1_load (l : Launch) (X : Xw) {σ σ' : St} {a1 : Int32} {a2 : Int32} {a3 : Int32} {r : Int32} (h : m_load σ a1 a2 a3 = some (r, σ')) : MetZ 1 l X yX1_load cX1_load 4 (some .int) 2 43 [.ref (xo X), .int a1, .int a2, .int a3] σ (some (.int r)) σ' := MetZ.ofAt (by decide) (Nat.le_of_ble_eq_true rfl) (fun G _ Γ Ξ hR hret => wkX1_load Γ Ξ hR h hret)

set_option maxHeartbeats 4000000 in
set_option maxRecDepth 100000 in
theorem wkX1_unload {G : Gx} {X : Xw} {σ σ' : St} (Γ : Ok G RX1 cX1_unload 3) (Ξ : OkX 1 G X) (hRm : Rm G 2 43) {a1 : Int32} {r : Int32} (h : m_unload σ a1 = some (r, σ')) (hret : ∀ (pc : Nat) (lv : List (Nat × Value)), retIs cX1_unload (some .int) (some (.int r)) pc → At G 3 σ' lv [.int r] pc) : At G 3 σ [(0, .ref (xo X)), (1, .int a1)] [] 0 := by
  rw [m_unload] at h
  refine A_aload_n Γ dX1_unload_0 0 rfl ?_
  refine A_iload_n Γ dX1_unload_1 1 rfl ?_
  replace h := b1 h
  obtain ⟨v2, e1, h⟩ := h
  refine kX1_X1isTrailer Γ Ξ hRm (by decide) (by decide) e1 (Nat.le_of_ble_eq_true rfl) dX1_unload_2 ?_
  refine A_if_ne (t := 10) Γ dX1_unload_5 (by decide) (fun c => ?_) (fun c => ?_)
  · replace h := it_f c h
    refine A_aload_n Γ dX1_unload_10 0 rfl ?_
    refine g1_23 Γ Ξ dX1_unload_11 ?_
    refine A_iload_n Γ dX1_unload_14 1 rfl ?_
    replace h := b1 h
    obtain ⟨v3, e4, h⟩ := h
    refine r1_23 Γ Ξ e4 dX1_unload_15 ?_
    refine A_istore_n (lv' := [(2, .int v3), (0, .ref (xo X)), (1, .int a1)]) Γ dX1_unload_16 (by decide) rfl ?_
    refine A_aload_n Γ dX1_unload_17 1 rfl ?_
    refine g1_23 Γ Ξ dX1_unload_18 ?_
    refine A_iload_n Γ dX1_unload_21 2 rfl ?_
    refine A_iconst (v := 0) Γ dX1_unload_22 (by decide) ?_
    replace h := b1 h
    obtain ⟨σ5, e6, h⟩ := h
    refine w1_23 Γ Ξ e6 dX1_unload_23 ?_
    refine A_iload_n Γ dX1_unload_24 0 rfl ?_
    obtain ⟨rfl, rfl⟩ := inj2 h
    exact hret _ _ dX1_unload_25
  · replace h := it_t c h
    refine A_iconst (v := (-1)) Γ dX1_unload_8 (by decide) ?_
    obtain ⟨rfl, rfl⟩ := inj2 h
    exact hret _ _ dX1_unload_9
theorem mtX1_unload (l : Launch) (X : Xw) {σ σ' : St} {a1 : Int32} {r : Int32} (h : m_unload σ a1 = some (r, σ')) : MetZ 1 l X yX1_unload cX1_unload 3 (some .int) 2 43 [.ref (xo X), .int a1] σ (some (.int r)) σ' := MetZ.ofAt (by decide) (Nat.le_of_ble_eq_true rfl) (fun G _ Γ Ξ hR hret => wkX1_unload Γ Ξ hR h hret)

set_option maxHeartbeats 4000000 in
set_option maxRecDepth 100000 in
theorem wkX1_isAxle {G : Gx} {X : Xw} {σ : St} (Γ : Ok G RX1 cX1_isAxle 1) (hkp : ∀ (H H1 : Heap), gP G σ H → (∀ q : Nat, q < H.size → H1[q]? = H[q]?) → gP G σ H1) (hRm : Rm G 1 22) {a0 : Int32} {r : Int32} (h : m_isAxle a0 = some r) (hret : ∀ (pc : Nat) (lv : List (Nat × Value)), retIs cX1_isAxle (some .boolean) (some (.int r)) pc → At G 1 σ lv [.int r] pc) : At G 1 σ [(0, .int a0)] [] 0 := by
  rw [m_isAxle] at h
  refine A_iload_n Γ dX1_isAxle_0 0 rfl ?_
  refine A_bipush (v := 60) Γ dX1_isAxle_1 (by decide) ?_
  refine A_bipush (v := 120) Γ dX1_isAxle_3 (by decide) ?_
  replace h := b1 h
  obtain ⟨v2, e1, h⟩ := h
  refine kX1_X1in Γ hkp hRm (by decide) (by decide) e1 (Nat.le_of_ble_eq_true rfl) dX1_isAxle_5 ?_
  replace h := b1 h
  obtain ⟨v4, e3, h⟩ := h
  obtain ⟨rfl, hze3⟩ := bZ_in e3
  obtain rfl := inj1 h
  exact hret _ _ ⟨dX1_isAxle_8, hze3⟩
theorem mtX1_isAxle (l : Launch) {a0 : Int32} {r : Int32} (h : m_isAxle a0 = some r) : MetS l yX1_isAxle cX1_isAxle 1 (some .boolean) 1 22 [.int a0] (some (.int r)) := MetS.ofAt ((fun _ => 0), (fun _ => 0), (fun _ _ => 0), (fun _ _ => 0), fun _ => none) (by decide) (Nat.le_of_ble_eq_true rfl) (fun G _ Γ hR hp hret => wkX1_isAxle (X := (0, (fun _ => 0), (fun _ => 0), (fun _ _ => 0), (fun _ => 0), (fun _ => True))) Γ hp hR h hret)
theorem kX1_X1isAxle {G : Gx} {cc : ByteArray} {nL pc F LO : Nat} {σ : St} {lv : List (Nat × Value)} {st : List Value} (Γ : Ok G RX1 cc nL) (hkp : ∀ (H H1 : Heap), gP G σ H → (∀ q : Nat, q < H.size → H1[q]? = H[q]?) → gP G σ H1) {a0 : Int32} {r : Int32} (hRm : Rm G F LO) (hf : 1 + 1 ≤ F) (hlo : 8 + (1 + 11) + 22 ≤ LO) (h : m_isAxle a0 = some r) (hW : (st.map fun v => v.category).sum ≤ 8) (d : decode cc pc = .ok (.invokestatic 286, 3)) (kk : At G nL σ lv (.int r :: st) (pc + 3)) : At G nL σ lv (.int a0 :: st) pc := A_callS Γ hkp rfl (mtX1_isAxle (gl G) h) (lw_S q1519 q1520 q64 q1521) (n := 1) (by decide +kernel) (rm_ok hRm hf hlo) (rm_k hRm) rfl rfl hW d kk
set_option maxHeartbeats 4000000 in
set_option maxRecDepth 100000 in
theorem wkX1_slide {G : Gx} {X : Xw} {σ σ' : St} (Γ : Ok G RX1 cX1_slide 4) (Ξ : OkX 1 G X) (hRm : Rm G 2 43) {a1 : Int32} {a2 : Int32} {r : Int32} (h : m_slide σ a1 a2 = some (r, σ')) (hret : ∀ (pc : Nat) (lv : List (Nat × Value)), retIs cX1_slide (some .int) (some (.int r)) pc → At G 4 σ' lv [.int r] pc) : At G 4 σ [(0, .ref (xo X)), (1, .int a1), (2, .int a2)] [] 0 := by
  rw [m_slide] at h
  refine A_aload_n Γ dX1_slide_0 0 rfl ?_
  refine A_iload_n Γ dX1_slide_1 1 rfl ?_
  replace h := b1 h
  obtain ⟨v2, e1, h⟩ := h
  refine kX1_X1isTrailer Γ Ξ hRm (by decide) (by decide) e1 (Nat.le_of_ble_eq_true rfl) dX1_slide_2 ?_
  refine A_if_eq (t := 15) Γ dX1_slide_5 (by decide) (fun c => ?_) (fun c => ?_)
  · replace h := it_t c h
    refine A_iconst (v := (-1)) Γ dX1_slide_15 (by decide) ?_
    obtain ⟨rfl, rfl⟩ := inj2 h
    exact hret _ _ dX1_slide_16
  · replace h := it_f c h
    refine A_iload_n Γ dX1_slide_8 2 rfl ?_
    replace h := b1 h
    obtain ⟨v4, e3, h⟩ := h
    refine kX1_X1isAxle Γ (kpX Ξ) hRm (by decide) (by decide) e3 (Nat.le_of_ble_eq_true rfl) dX1_slide_9 ?_
    refine A_if_ne (t := 17) Γ dX1_slide_12 (by decide) (fun c => ?_) (fun c => ?_)
    · replace h := it_f c h
      refine A_aload_n Γ dX1_slide_17 0 rfl ?_
      refine g1_22 Γ Ξ dX1_slide_18 ?_
      refine A_iload_n Γ dX1_slide_21 1 rfl ?_
      replace h := b1 h
      obtain ⟨v5, e6, h⟩ := h
      refine r1_22 Γ Ξ e6 dX1_slide_22 ?_
      refine A_istore_n (lv' := [(3, .int v5), (0, .ref (xo X)), (1, .int a1), (2, .int a2)]) Γ dX1_slide_23 (by decide) rfl ?_
      refine A_aload_n Γ dX1_slide_24 1 rfl ?_
      refine g1_22 Γ Ξ dX1_slide_25 ?_
      refine A_iload_n Γ dX1_slide_28 2 rfl ?_
      refine A_iload_n Γ dX1_slide_29 3 rfl ?_
      replace h := b1 h
      obtain ⟨σ7, e8, h⟩ := h
      refine w1_22 Γ Ξ e8 dX1_slide_30 ?_
      refine A_iload_n Γ dX1_slide_31 0 rfl ?_
      obtain ⟨rfl, rfl⟩ := inj2 h
      exact hret _ _ dX1_slide_32
    · replace h := it_t c h
      refine A_iconst (v := (-1)) Γ dX1_slide_15 (by decide) ?_
      obtain ⟨rfl, rfl⟩ := inj2 h
      exact hret _ _ dX1_slide_16
theorem mtX1_slide (l : Launch) (X : Xw) {σ σ' : St} {a1 : Int32} {a2 : Int32} {r : Int32} (h : m_slide σ a1 a2 = some (r, σ')) : MetZ 1 l X yX1_slide cX1_slide 4 (some .int) 2 43 [.ref (xo X), .int a1, .int a2] σ (some (.int r)) σ' := MetZ.ofAt (by decide) (Nat.le_of_ble_eq_true rfl) (fun G _ Γ Ξ hR hret => wkX1_slide Γ Ξ hR h hret)

set_option maxHeartbeats 4000000 in
set_option maxRecDepth 100000 in
theorem wkX1_sumOf {G : Gx} {X : Xw} {σ : St} (Γ : Ok G RX1 cX1_sumOf 6) (Ξ : OkX 1 G X) (hRm : Rm G 0 0) {a1 : Int32} {a2 : Int32} {r : Int64} (h : m_sumOf σ a1 a2 = some r) (hret : ∀ (pc : Nat) (lv : List (Nat × Value)), retIs cX1_sumOf (some .long) (some (.long r)) pc → At G 6 σ lv [.long r] pc) : At G 6 σ [(0, .ref (xo X)), (1, .int a1), (2, .int a2)] [] 0 := by
  rw [m_sumOf] at h
  refine A_lconst (v := 0) Γ dX1_sumOf_0 (by decide) ?_
  refine A_lstore_n (lv' := [(3, .long 0), (0, .ref (xo X)), (1, .int a1), (2, .int a2)]) Γ dX1_sumOf_1 (by decide) rfl ?_
  refine A_iconst (v := 0) Γ dX1_sumOf_2 (by decide) ?_
  refine A_istore (lv' := [(5, .int 0), (3, .long 0), (0, .ref (xo X)), (1, .int a1), (2, .int a2)]) Γ dX1_sumOf_3 (by decide) rfl ?_
  replace h := b1 h
  obtain ⟨x4, eLL1, h⟩ := h
  have hXL1 : At G 6 σ [(3, .long x4)] [] 72 := by
    refine A_lload_n Γ dX1_sumOf_72 0 rfl ?_
    obtain rfl := inj1 h
    exact hret _ _ dX1_sumOf_73
  replace eLL1 := lq2_ex eLL1
  obtain ⟨nL1, eLL1⟩ := eLL1
  have hLL1 : ∀ (nL1 : Nat) (x2 : Int64) (x3 : Int32), lpf2 (m_sumOf_L1 σ a1 a2) nL1 x2 x3 = some x4 → At G 6 σ [(0, .ref (xo X)), (1, .int a1), (2, .int a2), (3, .long x2), (5, .int x3)] [] 5 := by
    intro nL1
    induction nL1 with
    | zero => intro x2 x3 eL1; exact (lpf2_0 eL1).elim
    | succ nL1 ihL1 =>
      intro x2 x3 eL1
      replace eL1 := lpf2_s eL1
      obtain ⟨qL1, eL1, hqL1⟩ := eL1
      rw [m_sumOf_L1] at eL1
      refine A_iload Γ dX1_sumOf_5 4 rfl ?_
      refine A_aload_n Γ dX1_sumOf_7 0 rfl ?_
      refine g1_23 Γ Ξ dX1_sumOf_8 ?_
      refine A_iload_n Γ dX1_sumOf_11 1 rfl ?_
      replace eL1 := b1 eL1
      obtain ⟨v5, e6, eL1⟩ := eL1
      refine r1_23 Γ Ξ e6 dX1_sumOf_12 ?_
      refine A_icmp_ge (t := 72) Γ dX1_sumOf_13 (by decide) (fun c => ?_) (fun c => ?_)
      · replace eL1 := it_t c eL1
        obtain rfl := pr1 (lpx2 eL1 hqL1)
        exact A_sub [3] rfl hXL1
      · replace eL1 := it_f c eL1
        refine A_lload_n Γ dX1_sumOf_16 3 rfl ?_
        refine A_iload_n Γ dX1_sumOf_17 2 rfl ?_
        replace eL1 := b1 eL1
        obtain ⟨x8, eJ7, eL1⟩ := eL1
        have hJJ7 : At G 6 σ [(0, .ref (xo X)), (1, .int a1), (2, .int a2), (5, .int x3)] [.long x8, .long x2] 64 := by
          refine A_ladd Γ dX1_sumOf_64 ?_
          refine A_lstore_n (lv' := [(3, .long (x2 + x8)), (0, .ref (xo X)), (1, .int a1), (2, .int a2), (5, .int x3)]) Γ dX1_sumOf_65 (by decide) rfl ?_
          refine A_iinc (v := x3 + 1) (lv' := [(5, .int (x3 + 1)), (3, .long (x2 + x8)), (0, .ref (xo X)), (1, .int a1), (2, .int a2)]) Γ dX1_sumOf_66 4 rfl rfl (by decide) rfl ?_
          refine A_goto (t := 5) Γ dX1_sumOf_69 (by decide) ?_
          exact A_sub [2, 3, 4, 1, 0] rfl (ihL1 _ _ (lpc2 eL1 hqL1))
        refine A_if_eq (t := 51) Γ dX1_sumOf_18 (by decide) (fun c => ?_) (fun c => ?_)
        · replace eJ7 := it_t c eJ7
          refine A_aload_n Γ dX1_sumOf_51 0 rfl ?_
          refine g1_24 Γ Ξ dX1_sumOf_52 ?_
          refine A_bipush (v := 6) Γ dX1_sumOf_55 (by decide) ?_
          refine A_iload_n Γ dX1_sumOf_57 1 rfl ?_
          refine A_imul Γ dX1_sumOf_58 ?_
          refine A_iload Γ dX1_sumOf_59 4 rfl ?_
          refine A_iadd Γ dX1_sumOf_61 ?_
          replace eJ7 := b1 eJ7
          obtain ⟨v9, e10, eJ7⟩ := eJ7
          refine r1_24 Γ Ξ e10 dX1_sumOf_62 ?_
          refine A_i2l Γ dX1_sumOf_63 ?_
          obtain rfl := inj1 eJ7
          exact A_sub [0, 1, 2, 4] rfl hJJ7
        · replace eJ7 := it_f c eJ7
          refine A_aload_n Γ dX1_sumOf_21 0 rfl ?_
          refine g1_24 Γ Ξ dX1_sumOf_22 ?_
          refine A_bipush (v := 6) Γ dX1_sumOf_25 (by decide) ?_
          refine A_iload_n Γ dX1_sumOf_27 1 rfl ?_
          refine A_imul Γ dX1_sumOf_28 ?_
          refine A_iload Γ dX1_sumOf_29 4 rfl ?_
          refine A_iadd Γ dX1_sumOf_31 ?_
          replace eJ7 := b1 eJ7
          obtain ⟨v11, e12, eJ7⟩ := eJ7
          refine r1_24 Γ Ξ e12 dX1_sumOf_32 ?_
          refine A_i2l Γ dX1_sumOf_33 ?_
          refine A_aload_n Γ dX1_sumOf_34 0 rfl ?_
          refine g1_25 Γ Ξ dX1_sumOf_35 ?_
          refine A_bipush (v := 6) Γ dX1_sumOf_38 (by decide) ?_
          refine A_iload_n Γ dX1_sumOf_40 1 rfl ?_
          refine A_imul Γ dX1_sumOf_41 ?_
          refine A_iload Γ dX1_sumOf_42 4 rfl ?_
          refine A_iadd Γ dX1_sumOf_44 ?_
          replace eJ7 := b1 eJ7
          obtain ⟨v13, e14, eJ7⟩ := eJ7
          refine r1_25 Γ Ξ e14 dX1_sumOf_45 ?_
          refine A_i2l Γ dX1_sumOf_46 ?_
          refine A_lmul Γ dX1_sumOf_47 ?_
          refine A_goto (t := 64) Γ dX1_sumOf_48 (by decide) ?_
          obtain rfl := inj1 eJ7
          exact A_sub [0, 1, 2, 4] rfl hJJ7
  exact A_sub [2, 3, 4, 1, 0] rfl (hLL1 _ _ _ eLL1)
theorem mtX1_sumOf (l : Launch) (X : Xw) {σ : St} {a1 : Int32} {a2 : Int32} {r : Int64} (h : m_sumOf σ a1 a2 = some r) : MetZ 1 l X yX1_sumOf cX1_sumOf 6 (some .long) 0 0 [.ref (xo X), .int a1, .int a2] σ (some (.long r)) σ := MetZ.ofAt (by decide) (Nat.le_of_ble_eq_true rfl) (fun G _ Γ Ξ hR hret => wkX1_sumOf Γ Ξ hR h hret)
theorem kX1_X1sumOf {G : Gx} {X : Xw} {cc : ByteArray} {nL pc F LO : Nat} {σ : St} {lv : List (Nat × Value)} {st : List Value} (Γ : Ok G RX1 cc nL) (Ξ : OkX 1 G X) {a1 : Int32} {a2 : Int32} {r : Int64} (hRm : Rm G F LO) (hf : 0 + 1 ≤ F) (hlo : 8 + (6 + 11) + 0 ≤ LO) (h : m_sumOf σ a1 a2 = some r) (hW : (st.map fun v => v.category).sum ≤ 8) (d : decode cc pc = .ok (.invokevirtual 289, 3)) (kk : At G nL σ lv (.long r :: st) (pc + 3)) : At G nL σ lv (.int a2 :: .int a1 :: .ref (xo X) :: st) pc := A_callV Γ Ξ rfl rfl (mtX1_sumOf (gl G) X h) (lw_V q1530 q1532 qs48 q64 q1533) (n := 2) (by decide +kernel) (rm_ok hRm hf hlo) (rm_k hRm) rfl rfl hW d kk
set_option maxHeartbeats 4000000 in
set_option maxRecDepth 100000 in
theorem wkX1_liesOn {G : Gx} {X : Xw} {σ : St} (Γ : Ok G RX1 cX1_liesOn 4) (Ξ : OkX 1 G X) (hRm : Rm G 1 25) {a1 : Int32} {a2 : Int32} {a3 : Int32} {r : Int64} (h : m_liesOn σ a1 a2 a3 = some r) (hret : ∀ (pc : Nat) (lv : List (Nat × Value)), retIs cX1_liesOn (some .long) (some (.long r)) pc → At G 4 σ lv [.long r] pc) : At G 4 σ [(0, .ref (xo X)), (1, .int a1), (2, .int a2), (3, .int a3)] [] 0 := by
  rw [m_liesOn] at h
  refine A_iload_n Γ dX1_liesOn_0 3 rfl ?_
  replace h := b1 h
  obtain ⟨x2, eJ1, h⟩ := h
  have hJJ1 : At G 4 σ [] [.long x2] 29 := by
    obtain rfl := inj1 h
    exact hret _ _ dX1_liesOn_29
  refine A_if_eq (t := 23) Γ dX1_liesOn_1 (by decide) (fun c => ?_) (fun c => ?_)
  · replace eJ1 := it_t c eJ1
    refine A_aload_n Γ dX1_liesOn_23 0 rfl ?_
    refine A_iload_n Γ dX1_liesOn_24 1 rfl ?_
    refine A_iconst (v := 1) Γ dX1_liesOn_25 (by decide) ?_
    replace eJ1 := b1 eJ1
    obtain ⟨v4, e3, eJ1⟩ := eJ1
    refine kX1_X1sumOf Γ Ξ hRm (by decide) (by decide) e3 (Nat.le_of_ble_eq_true rfl) dX1_liesOn_26 ?_
    obtain rfl := inj1 eJ1
    exact A_sub [] rfl hJJ1
  · replace eJ1 := it_f c eJ1
    refine A_aload_n Γ dX1_liesOn_4 0 rfl ?_
    refine A_iload_n Γ dX1_liesOn_5 1 rfl ?_
    refine A_iconst (v := 0) Γ dX1_liesOn_6 (by decide) ?_
    replace eJ1 := b1 eJ1
    obtain ⟨v6, e5, eJ1⟩ := eJ1
    refine kX1_X1sumOf Γ Ξ hRm (by decide) (by decide) e5 (Nat.le_of_ble_eq_true rfl) dX1_liesOn_7 ?_
    refine A_iload_n Γ dX1_liesOn_10 2 rfl ?_
    refine A_i2l Γ dX1_liesOn_11 ?_
    refine A_lmul Γ dX1_liesOn_12 ?_
    refine A_aload_n Γ dX1_liesOn_13 0 rfl ?_
    refine A_iload_n Γ dX1_liesOn_14 1 rfl ?_
    refine A_iconst (v := 1) Γ dX1_liesOn_15 (by decide) ?_
    replace eJ1 := b1 eJ1
    obtain ⟨v8, e7, eJ1⟩ := eJ1
    refine kX1_X1sumOf Γ Ξ hRm (by decide) (by decide) e7 (Nat.le_of_ble_eq_true rfl) dX1_liesOn_16 ?_
    refine A_lsub Γ dX1_liesOn_19 ?_
    refine A_goto (t := 29) Γ dX1_liesOn_20 (by decide) ?_
    obtain rfl := inj1 eJ1
    exact A_sub [] rfl hJJ1
theorem mtX1_liesOn (l : Launch) (X : Xw) {σ : St} {a1 : Int32} {a2 : Int32} {a3 : Int32} {r : Int64} (h : m_liesOn σ a1 a2 a3 = some r) : MetZ 1 l X yX1_liesOn cX1_liesOn 4 (some .long) 1 25 [.ref (xo X), .int a1, .int a2, .int a3] σ (some (.long r)) σ := MetZ.ofAt (by decide) (Nat.le_of_ble_eq_true rfl) (fun G _ Γ Ξ hR hret => wkX1_liesOn Γ Ξ hR h hret)
theorem kX1_X1liesOn {G : Gx} {X : Xw} {cc : ByteArray} {nL pc F LO : Nat} {σ : St} {lv : List (Nat × Value)} {st : List Value} (Γ : Ok G RX1 cc nL) (Ξ : OkX 1 G X) {a1 : Int32} {a2 : Int32} {a3 : Int32} {r : Int64} (hRm : Rm G F LO) (hf : 1 + 1 ≤ F) (hlo : 8 + (4 + 11) + 25 ≤ LO) (h : m_liesOn σ a1 a2 a3 = some r) (hW : (st.map fun v => v.category).sum ≤ 8) (d : decode cc pc = .ok (.invokevirtual 293, 3)) (kk : At G nL σ lv (.long r :: st) (pc + 3)) : At G nL σ lv (.int a3 :: .int a2 :: .int a1 :: .ref (xo X) :: st) pc := A_callV Γ Ξ rfl rfl (mtX1_liesOn (gl G) X h) (lw_V q1526 q1528 qs47 q64 q1529) (n := 3) (by decide +kernel) (rm_ok hRm hf hlo) (rm_k hRm) rfl rfl hW d kk
set_option maxHeartbeats 4000000 in
set_option maxRecDepth 100000 in
theorem wkX1_weight {G : Gx} {X : Xw} {σ σ' : St} (Γ : Ok G RX1 cX1_weight 3) (Ξ : OkX 1 G X) (hRm : Rm G 2 48) {a1 : Int32} {a2 : Int32} {r : Int32} (h : m_weight σ a1 a2 = some (r, σ')) (hret : ∀ (pc : Nat) (lv : List (Nat × Value)), retIs cX1_weight (some .int) (some (.int r)) pc → At G 3 σ' lv [.int r] pc) : At G 3 σ [(0, .ref (xo X)), (1, .int a1), (2, .int a2)] [] 0 := by
  rw [m_weight] at h
  refine A_aload_n Γ dX1_weight_0 0 rfl ?_
  refine A_iload_n Γ dX1_weight_1 1 rfl ?_
  replace h := b1 h
  obtain ⟨v2, e1, h⟩ := h
  refine kX1_X1isTrailer Γ Ξ hRm (by decide) (by decide) e1 (Nat.le_of_ble_eq_true rfl) dX1_weight_2 ?_
  replace h := b2 h
  obtain ⟨σ4, x5, eJ3, h⟩ := h
  have hJJ3 : At G 3 σ4 [] [.int x5] 35 := by
    obtain ⟨rfl, rfl⟩ := inj2 h
    exact hret _ _ dX1_weight_35
  refine A_if_eq (t := 34) Γ dX1_weight_5 (by decide) (fun c => ?_) (fun c => ?_)
  · replace eJ3 := it_t c eJ3
    refine A_iconst (v := (-1)) Γ dX1_weight_34 (by decide) ?_
    obtain ⟨rfl, rfl⟩ := inj2 eJ3
    exact A_sub [] rfl hJJ3
  · replace eJ3 := it_f c eJ3
    refine A_aload_n Γ dX1_weight_8 0 rfl ?_
    refine A_aload_n Γ dX1_weight_9 0 rfl ?_
    refine A_iload_n Γ dX1_weight_10 1 rfl ?_
    refine A_aload_n Γ dX1_weight_11 0 rfl ?_
    refine g1_22 Γ Ξ dX1_weight_12 ?_
    refine A_iload_n Γ dX1_weight_15 1 rfl ?_
    replace eJ3 := b1 eJ3
    obtain ⟨v6, e7, eJ3⟩ := eJ3
    refine r1_22 Γ Ξ e7 dX1_weight_16 ?_
    refine A_iload_n Γ dX1_weight_17 2 rfl ?_
    replace eJ3 := b1 eJ3
    obtain ⟨v9, e8, eJ3⟩ := eJ3
    refine kX1_X1liesOn Γ Ξ hRm (by decide) (by decide) e8 (Nat.le_of_ble_eq_true rfl) dX1_weight_18 ?_
    refine A_aload_n Γ dX1_weight_21 0 rfl ?_
    refine g1_22 Γ Ξ dX1_weight_22 ?_
    refine A_iload_n Γ dX1_weight_25 1 rfl ?_
    replace eJ3 := b1 eJ3
    obtain ⟨v10, e11, eJ3⟩ := eJ3
    refine r1_22 Γ Ξ e11 dX1_weight_26 ?_
    refine A_i2l Γ dX1_weight_27 ?_
    replace eJ3 := b2 eJ3
    obtain ⟨v13, σ14, e12, eJ3⟩ := eJ3
    refine kX1_X1share Γ Ξ hRm (by decide) (by decide) e12 (Nat.le_of_ble_eq_true rfl) dX1_weight_28 ?_
    refine A_goto (t := 35) Γ dX1_weight_31 (by decide) ?_
    obtain ⟨rfl, rfl⟩ := inj2 eJ3
    exact A_sub [] rfl hJJ3
theorem mtX1_weight (l : Launch) (X : Xw) {σ σ' : St} {a1 : Int32} {a2 : Int32} {r : Int32} (h : m_weight σ a1 a2 = some (r, σ')) : MetZ 1 l X yX1_weight cX1_weight 3 (some .int) 2 48 [.ref (xo X), .int a1, .int a2] σ (some (.int r)) σ' := MetZ.ofAt (by decide) (Nat.le_of_ble_eq_true rfl) (fun G _ Γ Ξ hR hret => wkX1_weight Γ Ξ hR h hret)

set_option maxHeartbeats 4000000 in
set_option maxRecDepth 100000 in
theorem wkX1_isLawful {G : Gx} {X : Xw} {σ : St} (Γ : Ok G RX1 cX1_isLawful 5) (Ξ : OkX 1 G X) (hRm : Rm G 2 48) {a1 : Int32} {a2 : Int32} {r : Int32} (h : m_isLawful σ a1 a2 = some r) (hret : ∀ (pc : Nat) (lv : List (Nat × Value)), retIs cX1_isLawful (some .boolean) (some (.int r)) pc → At G 5 σ lv [.int r] pc) : At G 5 σ [(0, .ref (xo X)), (1, .int a1), (2, .int a2)] [] 0 := by
  rw [m_isLawful] at h
  refine A_aload_n Γ dX1_isLawful_0 0 rfl ?_
  refine A_iload_n Γ dX1_isLawful_1 1 rfl ?_
  refine A_iload_n Γ dX1_isLawful_2 2 rfl ?_
  refine A_iconst (v := 1) Γ dX1_isLawful_3 (by decide) ?_
  replace h := b1 h
  obtain ⟨v2, e1, h⟩ := h
  refine kX1_X1liesOn Γ Ξ hRm (by decide) (by decide) e1 (Nat.le_of_ble_eq_true rfl) dX1_isLawful_4 ?_
  refine A_lstore_n (lv' := [(3, .long v2), (0, .ref (xo X)), (1, .int a1), (2, .int a2)]) Γ dX1_isLawful_7 (by decide) rfl ?_
  refine A_aload_n Γ dX1_isLawful_8 1 rfl ?_
  refine A_iload_n Γ dX1_isLawful_9 2 rfl ?_
  refine A_iload_n Γ dX1_isLawful_10 3 rfl ?_
  refine A_iconst (v := 0) Γ dX1_isLawful_11 (by decide) ?_
  replace h := b1 h
  obtain ⟨v4, e3, h⟩ := h
  refine kX1_X1liesOn Γ Ξ hRm (by decide) (by decide) e3 (Nat.le_of_ble_eq_true rfl) dX1_isLawful_12 ?_
  refine A_aload_n Γ dX1_isLawful_15 1 rfl ?_
  refine g1_46 Γ Ξ dX1_isLawful_16 ?_
  refine A_i2l Γ dX1_isLawful_19 ?_
  refine A_iload_n Γ dX1_isLawful_20 3 rfl ?_
  refine A_i2l Γ dX1_isLawful_21 ?_
  refine A_lmul Γ dX1_isLawful_22 ?_
  refine A_lcmp Γ dX1_isLawful_23 ?_
  replace h := b1 h
  obtain ⟨x6, eJ5, h⟩ := h
  have hJJ5 : At G 5 σ [] [.int x6] 51 := by
    replace h := b1 h
    obtain ⟨v8, e7, h⟩ := h
    obtain ⟨rfl, hze7⟩ := bZ_in e7
    obtain rfl := inj1 h
    exact hret _ _ ⟨dX1_isLawful_51, hze7⟩
  refine A_if_gt (t := 50) Γ dX1_isLawful_24 (by decide) (fun c => ?_) (fun c => ?_)
  · replace eJ5 := it_t c eJ5
    refine A_iconst (v := 0) Γ dX1_isLawful_50 (by decide) ?_
    obtain rfl := inj1 eJ5
    exact A_sub [] rfl hJJ5
  · replace eJ5 := it_f c eJ5
    refine A_lload_n Γ dX1_isLawful_27 0 rfl ?_
    refine A_lconst (v := 0) Γ dX1_isLawful_28 (by decide) ?_
    refine A_lcmp Γ dX1_isLawful_29 ?_
    refine A_if_lt (t := 50) Γ dX1_isLawful_30 (by decide) (fun c => ?_) (fun c => ?_)
    · replace eJ5 := it_t c eJ5
      refine A_iconst (v := 0) Γ dX1_isLawful_50 (by decide) ?_
      obtain rfl := inj1 eJ5
      exact A_sub [] rfl hJJ5
    · replace eJ5 := it_f c eJ5
      refine A_lload_n Γ dX1_isLawful_33 0 rfl ?_
      refine A_aload_n Γ dX1_isLawful_34 1 rfl ?_
      refine g1_47 Γ Ξ dX1_isLawful_35 ?_
      refine A_i2l Γ dX1_isLawful_38 ?_
      refine A_iload_n Γ dX1_isLawful_39 3 rfl ?_
      refine A_i2l Γ dX1_isLawful_40 ?_
      refine A_lmul Γ dX1_isLawful_41 ?_
      refine A_lcmp Γ dX1_isLawful_42 ?_
      refine A_if_gt (t := 50) Γ dX1_isLawful_43 (by decide) (fun c => ?_) (fun c => ?_)
      · replace eJ5 := it_t c eJ5
        refine A_iconst (v := 0) Γ dX1_isLawful_50 (by decide) ?_
        obtain rfl := inj1 eJ5
        exact A_sub [] rfl hJJ5
      · replace eJ5 := it_f c eJ5
        refine A_iconst (v := 1) Γ dX1_isLawful_46 (by decide) ?_
        refine A_goto (t := 51) Γ dX1_isLawful_47 (by decide) ?_
        obtain rfl := inj1 eJ5
        exact A_sub [] rfl hJJ5
theorem mtX1_isLawful (l : Launch) (X : Xw) {σ : St} {a1 : Int32} {a2 : Int32} {r : Int32} (h : m_isLawful σ a1 a2 = some r) : MetZ 1 l X yX1_isLawful cX1_isLawful 5 (some .boolean) 2 48 [.ref (xo X), .int a1, .int a2] σ (some (.int r)) σ := MetZ.ofAt (by decide) (Nat.le_of_ble_eq_true rfl) (fun G _ Γ Ξ hR hret => wkX1_isLawful Γ Ξ hR h hret)
theorem kX1_X1isLawful {G : Gx} {X : Xw} {cc : ByteArray} {nL pc F LO : Nat} {σ : St} {lv : List (Nat × Value)} {st : List Value} (Γ : Ok G RX1 cc nL) (Ξ : OkX 1 G X) {a1 : Int32} {a2 : Int32} {r : Int32} (hRm : Rm G F LO) (hf : 2 + 1 ≤ F) (hlo : 8 + (5 + 11) + 48 ≤ LO) (h : m_isLawful σ a1 a2 = some r) (hW : (st.map fun v => v.category).sum ≤ 8) (d : decode cc pc = .ok (.invokevirtual 301, 3)) (kk : At G nL σ lv (.int r :: st) (pc + 3)) : At G nL σ lv (.int a2 :: .int a1 :: .ref (xo X) :: st) pc := A_callV Γ Ξ rfl rfl (mtX1_isLawful (gl G) X h) (lw_V q1542 q1544 qs50 q64 q1545) (n := 2) (by decide +kernel) (rm_ok hRm hf hlo) (rm_k hRm) rfl rfl hW d kk
set_option maxHeartbeats 4000000 in
set_option maxRecDepth 100000 in
theorem wkX1_lawful {G : Gx} {X : Xw} {σ : St} (Γ : Ok G RX1 cX1_lawful 2) (Ξ : OkX 1 G X) (hRm : Rm G 3 72) {a1 : Int32} {r : Int32} (h : m_lawful σ a1 = some r) (hret : ∀ (pc : Nat) (lv : List (Nat × Value)), retIs cX1_lawful (some .int) (some (.int r)) pc → At G 2 σ lv [.int r] pc) : At G 2 σ [(0, .ref (xo X)), (1, .int a1)] [] 0 := by
  rw [m_lawful] at h
  refine A_aload_n Γ dX1_lawful_0 0 rfl ?_
  refine A_iload_n Γ dX1_lawful_1 1 rfl ?_
  replace h := b1 h
  obtain ⟨v2, e1, h⟩ := h
  refine kX1_X1isTrailer Γ Ξ hRm (by decide) (by decide) e1 (Nat.le_of_ble_eq_true rfl) dX1_lawful_2 ?_
  replace h := b1 h
  obtain ⟨x4, eJ3, h⟩ := h
  have hJJ3 : At G 2 σ [] [.int x4] 31 := by
    obtain rfl := inj1 h
    exact hret _ _ dX1_lawful_31
  refine A_if_eq (t := 30) Γ dX1_lawful_5 (by decide) (fun c => ?_) (fun c => ?_)
  · replace eJ3 := it_t c eJ3
    refine A_iconst (v := (-1)) Γ dX1_lawful_30 (by decide) ?_
    obtain rfl := inj1 eJ3
    exact A_sub [] rfl hJJ3
  · replace eJ3 := it_f c eJ3
    refine A_aload_n Γ dX1_lawful_8 0 rfl ?_
    refine A_iload_n Γ dX1_lawful_9 1 rfl ?_
    refine A_aload_n Γ dX1_lawful_10 0 rfl ?_
    refine g1_22 Γ Ξ dX1_lawful_11 ?_
    refine A_iload_n Γ dX1_lawful_14 1 rfl ?_
    replace eJ3 := b1 eJ3
    obtain ⟨v5, e6, eJ3⟩ := eJ3
    refine r1_22 Γ Ξ e6 dX1_lawful_15 ?_
    replace eJ3 := b1 eJ3
    obtain ⟨v8, e7, eJ3⟩ := eJ3
    refine kX1_X1isLawful Γ Ξ hRm (by decide) (by decide) e7 (Nat.le_of_ble_eq_true rfl) dX1_lawful_16 ?_
    refine A_if_eq (t := 26) Γ dX1_lawful_19 (by decide) (fun c => ?_) (fun c => ?_)
    · replace eJ3 := it_t c eJ3
      refine A_iconst (v := 0) Γ dX1_lawful_26 (by decide) ?_
      refine A_goto (t := 31) Γ dX1_lawful_27 (by decide) ?_
      obtain rfl := inj1 eJ3
      exact A_sub [] rfl hJJ3
    · replace eJ3 := it_f c eJ3
      refine A_iconst (v := 1) Γ dX1_lawful_22 (by decide) ?_
      refine A_goto (t := 31) Γ dX1_lawful_23 (by decide) ?_
      obtain rfl := inj1 eJ3
      exact A_sub [] rfl hJJ3
theorem mtX1_lawful (l : Launch) (X : Xw) {σ : St} {a1 : Int32} {r : Int32} (h : m_lawful σ a1 = some r) : MetZ 1 l X yX1_lawful cX1_lawful 2 (some .int) 3 72 [.ref (xo X), .int a1] σ (some (.int r)) σ := MetZ.ofAt (by decide) (Nat.le_of_ble_eq_true rfl) (fun G _ Γ Ξ hR hret => wkX1_lawful Γ Ξ hR h hret)

set_option maxHeartbeats 4000000 in
set_option maxRecDepth 100000 in
theorem wkX1_shift {G : Gx} {X : Xw} {σ : St} (Γ : Ok G RX1 cX1_shift 3) (Ξ : OkX 1 G X) (hRm : Rm G 3 72) {a1 : Int32} {r : Int32} (h : m_shift σ a1 = some r) (hret : ∀ (pc : Nat) (lv : List (Nat × Value)), retIs cX1_shift (some .int) (some (.int r)) pc → At G 3 σ lv [.int r] pc) : At G 3 σ [(0, .ref (xo X)), (1, .int a1)] [] 0 := by
  rw [m_shift] at h
  refine A_aload_n Γ dX1_shift_0 0 rfl ?_
  refine A_iload_n Γ dX1_shift_1 1 rfl ?_
  replace h := b1 h
  obtain ⟨v2, e1, h⟩ := h
  refine kX1_X1isTrailer Γ Ξ hRm (by decide) (by decide) e1 (Nat.le_of_ble_eq_true rfl) dX1_shift_2 ?_
  refine A_if_ne (t := 10) Γ dX1_shift_5 (by decide) (fun c => ?_) (fun c => ?_)
  · replace h := it_f c h
    refine A_iconst (v := 0) Γ dX1_shift_10 (by decide) ?_
    refine A_istore_n (lv' := [(2, .int 0), (0, .ref (xo X)), (1, .int a1)]) Γ dX1_shift_11 (by decide) rfl ?_
    replace h := bR1 h
    obtain ⟨qqL3, eLL3, hsL3⟩ := h
    have hXL3 : ∀ (u5 : Unit), qqL3 = .inl u5 → At G 3 σ [] [] 102 := by
      intro u5 e0
      rcases hsL3 with ⟨u5z, e1, h⟩ | ⟨r1, e1, _⟩
      · cases e0.symm.trans e1
        refine A_bipush (v := (-9)) Γ dX1_shift_102 (by decide) ?_
        obtain rfl := inj1 h
        exact hret _ _ dX1_shift_104
      · cases e0.symm.trans e1
    have hRtL3 : ∀ w : Int32, qqL3 = .inr w → some w = some r := by
      intro w e0
      rcases hsL3 with ⟨u5z, e1, _⟩ | ⟨r1, e1, h9⟩
      · cases e0.symm.trans e1
      · cases e0.symm.trans e1; exact h9
    replace eLL3 := lq1_ex eLL3
    obtain ⟨nL3, eLL3⟩ := eLL3
    have hLL3 : ∀ (nL3 : Nat) (x4 : Int32), lpf1 (m_shift_L3 σ a1) nL3 x4 = some qqL3 → At G 3 σ [(0, .ref (xo X)), (1, .int a1), (2, .int x4)] [] 12 := by
      intro nL3
      induction nL3 with
      | zero => intro x4 eL3; exact (lpf1_0 eL3).elim
      | succ nL3 ihL3 =>
        intro x4 eL3
        replace eL3 := lpf1_s eL3
        obtain ⟨qL3, eL3, hqL3⟩ := eL3
        rw [m_shift_L3] at eL3
        refine A_iload_n Γ dX1_shift_12 2 rfl ?_
        refine A_bipush (v := 60) Γ dX1_shift_13 (by decide) ?_
        refine A_icmp_gt (t := 102) Γ dX1_shift_15 (by decide) (fun c => ?_) (fun c => ?_)
        · replace eL3 := it_t c eL3
          exact A_sub [] rfl (hXL3 _ (lpx1 eL3 hqL3).symm)
        · replace eL3 := it_f c eL3
          refine A_aload_n Γ dX1_shift_18 0 rfl ?_
          refine g1_22 Γ Ξ dX1_shift_19 ?_
          refine A_iload_n Γ dX1_shift_22 1 rfl ?_
          replace eL3 := b1 eL3
          obtain ⟨v6, e7, eL3⟩ := eL3
          refine r1_22 Γ Ξ e7 dX1_shift_23 ?_
          refine A_iload_n Γ dX1_shift_24 2 rfl ?_
          refine A_isub Γ dX1_shift_25 ?_
          replace eL3 := b1 eL3
          obtain ⟨v9, e8, eL3⟩ := eL3
          refine kX1_X1isAxle Γ (kpX Ξ) hRm (by decide) (by decide) e8 (Nat.le_of_ble_eq_true rfl) dX1_shift_26 ?_
          have hKK10 : m_shift_K10 σ a1 x4  = some qL3 → At G 3 σ [(0, .ref (xo X)), (1, .int a1), (2, .int x4)] [] 57 := by
            clear eL3
            intro  eL3
            rw [m_shift_K10] at eL3
            refine A_aload_n Γ dX1_shift_57 0 rfl ?_
            refine g1_22 Γ Ξ dX1_shift_58 ?_
            refine A_iload_n Γ dX1_shift_61 1 rfl ?_
            replace eL3 := b1 eL3
            obtain ⟨v11, e12, eL3⟩ := eL3
            refine r1_22 Γ Ξ e12 dX1_shift_62 ?_
            refine A_iload_n Γ dX1_shift_63 2 rfl ?_
            refine A_iadd Γ dX1_shift_64 ?_
            replace eL3 := b1 eL3
            obtain ⟨v14, e13, eL3⟩ := eL3
            refine kX1_X1isAxle Γ (kpX Ξ) hRm (by decide) (by decide) e13 (Nat.le_of_ble_eq_true rfl) dX1_shift_65 ?_
            refine A_if_eq (t := 96) Γ dX1_shift_68 (by decide) (fun c => ?_) (fun c => ?_)
            · replace eL3 := it_t c eL3
              refine A_iinc (v := x4 + 1) (lv' := [(2, .int (x4 + 1)), (0, .ref (xo X)), (1, .int a1)]) Γ dX1_shift_96 2 rfl rfl (by decide) rfl ?_
              refine A_goto (t := 12) Γ dX1_shift_99 (by decide) ?_
              exact A_sub [1, 2, 0] rfl (ihL3 _ (lpc1 eL3 hqL3))
            · replace eL3 := it_f c eL3
              refine A_aload_n Γ dX1_shift_71 0 rfl ?_
              refine A_iload_n Γ dX1_shift_72 1 rfl ?_
              refine A_aload_n Γ dX1_shift_73 0 rfl ?_
              refine g1_22 Γ Ξ dX1_shift_74 ?_
              refine A_iload_n Γ dX1_shift_77 1 rfl ?_
              replace eL3 := b1 eL3
              obtain ⟨v15, e16, eL3⟩ := eL3
              refine r1_22 Γ Ξ e16 dX1_shift_78 ?_
              refine A_iload_n Γ dX1_shift_79 2 rfl ?_
              refine A_iadd Γ dX1_shift_80 ?_
              replace eL3 := b1 eL3
              obtain ⟨v18, e17, eL3⟩ := eL3
              refine kX1_X1isLawful Γ Ξ hRm (by decide) (by decide) e17 (Nat.le_of_ble_eq_true rfl) dX1_shift_81 ?_
              refine A_if_eq (t := 96) Γ dX1_shift_84 (by decide) (fun c => ?_) (fun c => ?_)
              · replace eL3 := it_t c eL3
                refine A_iinc (v := x4 + 1) (lv' := [(2, .int (x4 + 1)), (0, .ref (xo X)), (1, .int a1)]) Γ dX1_shift_96 2 rfl rfl (by decide) rfl ?_
                refine A_goto (t := 12) Γ dX1_shift_99 (by decide) ?_
                exact A_sub [1, 2, 0] rfl (ihL3 _ (lpc1 eL3 hqL3))
              · replace eL3 := it_f c eL3
                refine A_aload_n Γ dX1_shift_87 0 rfl ?_
                refine g1_22 Γ Ξ dX1_shift_88 ?_
                refine A_iload_n Γ dX1_shift_91 1 rfl ?_
                replace eL3 := b1 eL3
                obtain ⟨v19, e20, eL3⟩ := eL3
                refine r1_22 Γ Ξ e20 dX1_shift_92 ?_
                refine A_iload_n Γ dX1_shift_93 2 rfl ?_
                refine A_iadd Γ dX1_shift_94 ?_
                have rL3 := hRtL3 _ (lpx1 eL3 hqL3).symm
                obtain rfl := inj1 rL3
                exact hret _ _ dX1_shift_95
          refine A_if_eq (t := 57) Γ dX1_shift_29 (by decide) (fun c => ?_) (fun c => ?_)
          · replace eL3 := it_t c eL3
            exact A_sub [0, 1, 2] rfl (hKK10  eL3)
          · replace eL3 := it_f c eL3
            refine A_aload_n Γ dX1_shift_32 0 rfl ?_
            refine A_iload_n Γ dX1_shift_33 1 rfl ?_
            refine A_aload_n Γ dX1_shift_34 0 rfl ?_
            refine g1_22 Γ Ξ dX1_shift_35 ?_
            refine A_iload_n Γ dX1_shift_38 1 rfl ?_
            replace eL3 := b1 eL3
            obtain ⟨v21, e22, eL3⟩ := eL3
            refine r1_22 Γ Ξ e22 dX1_shift_39 ?_
            refine A_iload_n Γ dX1_shift_40 2 rfl ?_
            refine A_isub Γ dX1_shift_41 ?_
            replace eL3 := b1 eL3
            obtain ⟨v24, e23, eL3⟩ := eL3
            refine kX1_X1isLawful Γ Ξ hRm (by decide) (by decide) e23 (Nat.le_of_ble_eq_true rfl) dX1_shift_42 ?_
            refine A_if_eq (t := 57) Γ dX1_shift_45 (by decide) (fun c => ?_) (fun c => ?_)
            · replace eL3 := it_t c eL3
              exact A_sub [0, 1, 2] rfl (hKK10  eL3)
            · replace eL3 := it_f c eL3
              refine A_aload_n Γ dX1_shift_48 0 rfl ?_
              refine g1_22 Γ Ξ dX1_shift_49 ?_
              refine A_iload_n Γ dX1_shift_52 1 rfl ?_
              replace eL3 := b1 eL3
              obtain ⟨v25, e26, eL3⟩ := eL3
              refine r1_22 Γ Ξ e26 dX1_shift_53 ?_
              refine A_iload_n Γ dX1_shift_54 2 rfl ?_
              refine A_isub Γ dX1_shift_55 ?_
              have rL3 := hRtL3 _ (lpx1 eL3 hqL3).symm
              obtain rfl := inj1 rL3
              exact hret _ _ dX1_shift_56
    exact A_sub [1, 2, 0] rfl (hLL3 _ _ eLL3)
  · replace h := it_t c h
    refine A_iconst (v := (-1)) Γ dX1_shift_8 (by decide) ?_
    obtain rfl := inj1 h
    exact hret _ _ dX1_shift_9
theorem mtX1_shift (l : Launch) (X : Xw) {σ : St} {a1 : Int32} {r : Int32} (h : m_shift σ a1 = some r) : MetZ 1 l X yX1_shift cX1_shift 3 (some .int) 3 72 [.ref (xo X), .int a1] σ (some (.int r)) σ := MetZ.ofAt (by decide) (Nat.le_of_ble_eq_true rfl) (fun G _ Γ Ξ hR hret => wkX1_shift Γ Ξ hR h hret)

set_option maxHeartbeats 4000000 in
set_option maxRecDepth 100000 in
theorem wkX1_cold {G : Gx} {X : Xw} {σ σ' : St} (Γ : Ok G RX1 cX1_cold 12) (Ξ : OkX 1 G X) (hRm : Rm G 2 43) {a1 : Int32} {a2 : Int32} {a3 : Int32} {r : Int32} (h : m_cold σ a1 a2 a3 = some (r, σ')) (hret : ∀ (pc : Nat) (lv : List (Nat × Value)), retIs cX1_cold (some .int) (some (.int r)) pc → At G 12 σ' lv [.int r] pc) : At G 12 σ [(0, .ref (xo X)), (1, .int a1), (2, .int a2), (3, .int a3)] [] 0 := by
  rw [m_cold] at h
  refine A_aload_n Γ dX1_cold_0 0 rfl ?_
  refine A_iload_n Γ dX1_cold_1 1 rfl ?_
  replace h := b1 h
  obtain ⟨v2, e1, h⟩ := h
  refine kX1_X1isTrailer Γ Ξ hRm (by decide) (by decide) e1 (Nat.le_of_ble_eq_true rfl) dX1_cold_2 ?_
  refine A_if_eq (t := 24) Γ dX1_cold_5 (by decide) (fun c => ?_) (fun c => ?_)
  · replace h := it_t c h
    refine A_iconst (v := (-1)) Γ dX1_cold_24 (by decide) ?_
    obtain ⟨rfl, rfl⟩ := inj2 h
    exact hret _ _ dX1_cold_25
  · replace h := it_f c h
    refine A_iload_n Γ dX1_cold_8 2 rfl ?_
    replace h := b1 h
    obtain ⟨v4, e3, h⟩ := h
    refine kX1_X1isRow Γ (kpX Ξ) hRm (by decide) (by decide) e3 (Nat.le_of_ble_eq_true rfl) dX1_cold_9 ?_
    refine A_if_eq (t := 24) Γ dX1_cold_12 (by decide) (fun c => ?_) (fun c => ?_)
    · replace h := it_t c h
      refine A_iconst (v := (-1)) Γ dX1_cold_24 (by decide) ?_
      obtain ⟨rfl, rfl⟩ := inj2 h
      exact hret _ _ dX1_cold_25
    · replace h := it_f c h
      refine A_iload_n Γ dX1_cold_15 3 rfl ?_
      refine A_iconst (v := 0) Γ dX1_cold_16 (by decide) ?_
      refine A_iconst (v := 2) Γ dX1_cold_17 (by decide) ?_
      replace h := b1 h
      obtain ⟨v6, e5, h⟩ := h
      refine kX1_X1in Γ (kpX Ξ) hRm (by decide) (by decide) e5 (Nat.le_of_ble_eq_true rfl) dX1_cold_18 ?_
      refine A_if_ne (t := 26) Γ dX1_cold_21 (by decide) (fun c => ?_) (fun c => ?_)
      · replace h := it_f c h
        refine A_aload_n Γ dX1_cold_26 0 rfl ?_
        refine A_iload_n Γ dX1_cold_27 1 rfl ?_
        replace h := b1 h
        obtain ⟨v8, e7, h⟩ := h
        refine kX1_X1isCold Γ Ξ hRm (by decide) (by decide) e7 (Nat.le_of_ble_eq_true rfl) dX1_cold_28 ?_
        refine A_if_ne (t := 40) Γ dX1_cold_31 (by decide) (fun c => ?_) (fun c => ?_)
        · replace h := it_f c h
          refine A_aload_n Γ dX1_cold_40 0 rfl ?_
          refine g1_6 Γ Ξ dX1_cold_41 ?_
          refine A_iload_n Γ dX1_cold_44 2 rfl ?_
          replace h := b1 h
          obtain ⟨v9, e10, h⟩ := h
          refine r1_6 Γ Ξ e10 dX1_cold_45 ?_
          refine A_if_ge (t := 55) Γ dX1_cold_46 (by decide) (fun c => ?_) (fun c => ?_)
          · replace h := it_t c h
            refine A_aload_n Γ dX1_cold_55 0 rfl ?_
            refine g1_28 Γ Ξ dX1_cold_56 ?_
            refine A_iload_n Γ dX1_cold_59 1 rfl ?_
            refine A_dup2 Γ dX1_cold_60 rfl rfl ?_
            replace h := b1 h
            obtain ⟨v11, e12, h⟩ := h
            refine r1_28 Γ Ξ e12 dX1_cold_61 ?_
            refine A_iconst (v := 1) Γ dX1_cold_62 (by decide) ?_
            refine A_iadd Γ dX1_cold_63 ?_
            replace h := b1 h
            obtain ⟨σ13, e14, h⟩ := h
            refine w1_28 Γ Ξ e14 dX1_cold_64 ?_
            refine A_iconst (v := 0) Γ dX1_cold_65 (by decide) ?_
            refine A_istore (lv' := [(4, .int 0), (0, .ref (xo X)), (1, .int a1), (2, .int a2), (3, .int a3)]) Γ dX1_cold_66 (by decide) rfl ?_
            refine A_iconst (v := 0) Γ dX1_cold_68 (by decide) ?_
            refine A_istore (lv' := [(5, .int 0), (4, .int 0), (0, .ref (xo X)), (1, .int a1), (2, .int a2), (3, .int a3)]) Γ dX1_cold_69 (by decide) rfl ?_
            refine A_iconst (v := 0) Γ dX1_cold_71 (by decide) ?_
            refine A_istore (lv' := [(6, .int 0), (5, .int 0), (4, .int 0), (0, .ref (xo X)), (1, .int a1), (2, .int a2), (3, .int a3)]) Γ dX1_cold_72 (by decide) rfl ?_
            refine A_iconst (v := 0) Γ dX1_cold_74 (by decide) ?_
            refine A_istore (lv' := [(7, .int 0), (6, .int 0), (5, .int 0), (4, .int 0), (0, .ref (xo X)), (1, .int a1), (2, .int a2), (3, .int a3)]) Γ dX1_cold_75 (by decide) rfl ?_
            refine A_iconst (v := 0) Γ dX1_cold_77 (by decide) ?_
            refine A_istore (lv' := [(8, .int 0), (7, .int 0), (6, .int 0), (5, .int 0), (4, .int 0), (0, .ref (xo X)), (1, .int a1), (2, .int a2), (3, .int a3)]) Γ dX1_cold_78 (by decide) rfl ?_
            replace h := b3 h
            obtain ⟨x21, x22, x23, eLL15, h⟩ := h
            have hXL15 : At G 12 σ13 [(3, .int a3), (4, .int x21), (5, .int x22), (7, .int x23)] [] 220 := by
              refine A_bipush (v := 10) Γ dX1_cold_220 (by decide) ?_
              refine A_iload_n Γ dX1_cold_222 0 rfl ?_
              replace h := b1 h
              obtain ⟨x43, eJ42, h⟩ := h
              have hJJ42 : At G 12 σ13 [] [.int x43, .int 10] 243 := by
                refine A_imul Γ dX1_cold_243 ?_
                obtain ⟨rfl, rfl⟩ := inj2 h
                exact hret _ _ dX1_cold_244
              refine A_if_ne (t := 231) Γ dX1_cold_223 (by decide) (fun c => ?_) (fun c => ?_)
              · replace eJ42 := it_f c eJ42
                refine A_iload_n Γ dX1_cold_231 0 rfl ?_
                refine A_iconst (v := 1) Γ dX1_cold_232 (by decide) ?_
                refine A_icmp_ne (t := 241) Γ dX1_cold_233 (by decide) (fun c => ?_) (fun c => ?_)
                · replace eJ42 := it_f c eJ42
                  refine A_iload Γ dX1_cold_241 3 rfl ?_
                  obtain rfl := inj1 eJ42
                  exact A_sub [] rfl hJJ42
                · replace eJ42 := it_t c eJ42
                  refine A_iload Γ dX1_cold_236 2 rfl ?_
                  refine A_goto (t := 243) Γ dX1_cold_238 (by decide) ?_
                  obtain rfl := inj1 eJ42
                  exact A_sub [] rfl hJJ42
              · replace eJ42 := it_t c eJ42
                refine A_iload Γ dX1_cold_226 1 rfl ?_
                refine A_goto (t := 243) Γ dX1_cold_228 (by decide) ?_
                obtain rfl := inj1 eJ42
                exact A_sub [] rfl hJJ42
            replace eLL15 := lq5_ex eLL15
            obtain ⟨nL15, eLL15⟩ := eLL15
            have hLL15 : ∀ (nL15 : Nat) (x16 : Int32) (x17 : Int32) (x18 : Int32) (x19 : Int32) (x20 : Int32), lpf5 (m_cold_L15 a1 a2 σ13) nL15 x16 x17 x18 x19 x20 = some (x21, x22, x23) → At G 12 σ13 [(0, .ref (xo X)), (1, .int a1), (2, .int a2), (3, .int a3), (4, .int x16), (5, .int x17), (6, .int x18), (7, .int x19), (8, .int x20)] [] 80 := by
              intro nL15
              induction nL15 with
              | zero => intro x16 x17 x18 x19 x20 eL15; exact (lpf5_0 eL15).elim
              | succ nL15 ihL15 =>
                intro x16 x17 x18 x19 x20 eL15
                replace eL15 := lpf5_s eL15
                obtain ⟨qL15, eL15, hqL15⟩ := eL15
                rw [m_cold_L15] at eL15
                refine A_iload Γ dX1_cold_80 8 rfl ?_
                refine A_aload_n Γ dX1_cold_82 0 rfl ?_
                refine g1_6 Γ Ξ dX1_cold_83 ?_
                refine A_iload_n Γ dX1_cold_86 2 rfl ?_
                replace eL15 := b1 eL15
                obtain ⟨v24, e25, eL15⟩ := eL15
                refine r1_6 Γ Ξ e25 dX1_cold_87 ?_
                refine A_icmp_ge (t := 220) Γ dX1_cold_88 (by decide) (fun c => ?_) (fun c => ?_)
                · replace eL15 := it_t c eL15
                  obtain ⟨rfl, rfl, rfl⟩ := pr3 (lpx5 eL15 hqL15)
                  exact A_sub [3, 4, 5, 7] rfl hXL15
                · replace eL15 := it_f c eL15
                  refine A_aload_n Γ dX1_cold_91 0 rfl ?_
                  refine g1_7 Γ Ξ dX1_cold_92 ?_
                  refine A_bipush (v := 40) Γ dX1_cold_95 (by decide) ?_
                  refine A_iload_n Γ dX1_cold_97 2 rfl ?_
                  refine A_imul Γ dX1_cold_98 ?_
                  refine A_iload Γ dX1_cold_99 8 rfl ?_
                  refine A_iadd Γ dX1_cold_101 ?_
                  replace eL15 := b1 eL15
                  obtain ⟨v26, e27, eL15⟩ := eL15
                  refine r1_7 Γ Ξ e27 dX1_cold_102 ?_
                  refine A_istore (lv' := [(9, .int v26), (0, .ref (xo X)), (1, .int a1), (2, .int a2), (3, .int a3), (4, .int x16), (5, .int x17), (6, .int x18), (7, .int x19), (8, .int x20)]) Γ dX1_cold_103 (by decide) rfl ?_
                  refine A_iload Γ dX1_cold_105 0 rfl ?_
                  refine A_sipush (v := (-999)) Γ dX1_cold_107 (by decide) ?_
                  replace eL15 := b1 eL15
                  obtain ⟨x29, eJ28, eL15⟩ := eL15
                  have hJJ28 : At G 12 σ13 [(0, .ref (xo X)), (1, .int a1), (2, .int a2), (3, .int a3), (4, .int x16), (5, .int x17), (6, .int x18), (7, .int x19), (8, .int x20), (9, .int v26)] [.int x29] 118 := by
                    refine A_istore (lv' := [(10, .int x29), (0, .ref (xo X)), (1, .int a1), (2, .int a2), (3, .int a3), (4, .int x16), (5, .int x17), (6, .int x18), (7, .int x19), (8, .int x20), (9, .int v26)]) Γ dX1_cold_118 (by decide) rfl ?_
                    refine A_iload Γ dX1_cold_120 0 rfl ?_
                    replace eL15 := b1 eL15
                    obtain ⟨x31, eJ30, eL15⟩ := eL15
                    have hJJ30 : At G 12 σ13 [(0, .ref (xo X)), (1, .int a1), (2, .int a2), (3, .int a3), (4, .int x16), (5, .int x17), (6, .int x18), (7, .int x19), (8, .int x20), (10, .int x29)] [.int x31] 141 := by
                      refine A_istore (lv' := [(11, .int x31), (0, .ref (xo X)), (1, .int a1), (2, .int a2), (3, .int a3), (4, .int x16), (5, .int x17), (6, .int x18), (7, .int x19), (8, .int x20), (10, .int x29)]) Γ dX1_cold_141 (by decide) rfl ?_
                      refine A_iload Γ dX1_cold_143 5 rfl ?_
                      refine A_iload Γ dX1_cold_145 0 rfl ?_
                      replace eL15 := b1 eL15
                      obtain ⟨x35, eJ34, eL15⟩ := eL15
                      have hJJ34 : At G 12 σ13 [(0, .ref (xo X)), (1, .int a1), (2, .int a2), (3, .int a3), (5, .int x17), (6, .int x18), (7, .int x19), (8, .int x20), (10, .int x29), (11, .int x31)] [.int x35, .int x16] 155 := by
                        refine A_iadd Γ dX1_cold_155 ?_
                        refine A_istore (lv' := [(4, .int (x16 + x35)), (0, .ref (xo X)), (1, .int a1), (2, .int a2), (3, .int a3), (5, .int x17), (6, .int x18), (7, .int x19), (8, .int x20), (10, .int x29), (11, .int x31)]) Γ dX1_cold_156 (by decide) rfl ?_
                        refine A_iload Γ dX1_cold_158 5 rfl ?_
                        refine A_iload Γ dX1_cold_160 10 rfl ?_
                        replace eL15 := b1 eL15
                        obtain ⟨x37, eJ36, eL15⟩ := eL15
                        have hJJ36 : At G 12 σ13 [(0, .ref (xo X)), (1, .int a1), (2, .int a2), (3, .int a3), (4, .int (x16 + x35)), (6, .int x18), (7, .int x19), (8, .int x20), (10, .int x29), (11, .int x31)] [.int x37, .int x17] 175 := by
                          refine A_iadd Γ dX1_cold_175 ?_
                          refine A_istore (lv' := [(5, .int (x17 + x37)), (0, .ref (xo X)), (1, .int a1), (2, .int a2), (3, .int a3), (4, .int (x16 + x35)), (6, .int x18), (7, .int x19), (8, .int x20), (10, .int x29), (11, .int x31)]) Γ dX1_cold_176 (by decide) rfl ?_
                          refine A_iload Γ dX1_cold_178 10 rfl ?_
                          replace eL15 := b1 eL15
                          obtain ⟨x39, eJ38, eL15⟩ := eL15
                          have hJJ38 : At G 12 σ13 [(0, .ref (xo X)), (1, .int a1), (2, .int a2), (3, .int a3), (4, .int (x16 + x35)), (5, .int (x17 + x37)), (7, .int x19), (8, .int x20)] [.int x39] 196 := by
                            refine A_istore (lv' := [(6, .int x39), (0, .ref (xo X)), (1, .int a1), (2, .int a2), (3, .int a3), (4, .int (x16 + x35)), (5, .int (x17 + x37)), (7, .int x19), (8, .int x20)]) Γ dX1_cold_196 (by decide) rfl ?_
                            refine A_iload Γ dX1_cold_198 0 rfl ?_
                            refine A_iload Γ dX1_cold_200 7 rfl ?_
                            replace eL15 := b1 eL15
                            obtain ⟨x41, eJ40, eL15⟩ := eL15
                            have hJJ40 : At G 12 σ13 [(0, .ref (xo X)), (1, .int a1), (2, .int a2), (3, .int a3), (4, .int (x16 + x35)), (5, .int (x17 + x37)), (6, .int x39), (8, .int x20)] [.int x41] 212 := by
                              refine A_istore (lv' := [(7, .int x41), (0, .ref (xo X)), (1, .int a1), (2, .int a2), (3, .int a3), (4, .int (x16 + x35)), (5, .int (x17 + x37)), (6, .int x39), (8, .int x20)]) Γ dX1_cold_212 (by decide) rfl ?_
                              refine A_iinc (v := x20 + 1) (lv' := [(8, .int (x20 + 1)), (7, .int x41), (0, .ref (xo X)), (1, .int a1), (2, .int a2), (3, .int a3), (4, .int (x16 + x35)), (5, .int (x17 + x37)), (6, .int x39)]) Γ dX1_cold_214 8 rfl rfl (by decide) rfl ?_
                              refine A_goto (t := 80) Γ dX1_cold_217 (by decide) ?_
                              exact A_sub [2, 3, 4, 5, 6, 7, 8, 1, 0] rfl (ihL15 _ _ _ _ _ (lpc5 eL15 hqL15))
                            refine A_icmp_le (t := 210) Γ dX1_cold_202 (by decide) (fun c => ?_) (fun c => ?_)
                            · replace eJ40 := it_t c eJ40
                              refine A_iload Γ dX1_cold_210 7 rfl ?_
                              obtain rfl := inj1 eJ40
                              exact A_sub [1, 2, 3, 4, 5, 6, 0, 8] rfl hJJ40
                            · replace eJ40 := it_f c eJ40
                              refine A_iload Γ dX1_cold_205 0 rfl ?_
                              refine A_goto (t := 212) Γ dX1_cold_207 (by decide) ?_
                              obtain rfl := inj1 eJ40
                              exact A_sub [1, 2, 3, 4, 5, 6, 0, 8] rfl hJJ40
                          refine A_if_ne (t := 188) Γ dX1_cold_180 (by decide) (fun c => ?_) (fun c => ?_)
                          · replace eJ38 := it_f c eJ38
                            refine A_iload Γ dX1_cold_188 6 rfl ?_
                            refine A_iconst (v := 1) Γ dX1_cold_190 (by decide) ?_
                            refine A_iadd Γ dX1_cold_191 ?_
                            refine A_goto (t := 196) Γ dX1_cold_192 (by decide) ?_
                            obtain rfl := inj1 eJ38
                            exact A_sub [1, 2, 3, 4, 5, 0, 7, 8] rfl hJJ38
                          · replace eJ38 := it_t c eJ38
                            refine A_iload Γ dX1_cold_183 9 rfl ?_
                            refine A_if_eq (t := 195) Γ dX1_cold_185 (by decide) (fun c => ?_) (fun c => ?_)
                            · replace eJ38 := it_t c eJ38
                              refine A_iconst (v := 0) Γ dX1_cold_195 (by decide) ?_
                              obtain rfl := inj1 eJ38
                              exact A_sub [1, 2, 3, 4, 5, 0, 7, 8] rfl hJJ38
                            · replace eJ38 := it_f c eJ38
                              refine A_iload Γ dX1_cold_188 6 rfl ?_
                              refine A_iconst (v := 1) Γ dX1_cold_190 (by decide) ?_
                              refine A_iadd Γ dX1_cold_191 ?_
                              refine A_goto (t := 196) Γ dX1_cold_192 (by decide) ?_
                              obtain rfl := inj1 eJ38
                              exact A_sub [1, 2, 3, 4, 5, 0, 7, 8] rfl hJJ38
                        refine A_if_ne (t := 170) Γ dX1_cold_162 (by decide) (fun c => ?_) (fun c => ?_)
                        · replace eJ36 := it_f c eJ36
                          refine A_iconst (v := 1) Γ dX1_cold_170 (by decide) ?_
                          refine A_goto (t := 175) Γ dX1_cold_171 (by decide) ?_
                          obtain rfl := inj1 eJ36
                          exact A_sub [1, 2, 3, 4, 0, 6, 7, 8, 9, 10] rfl hJJ36
                        · replace eJ36 := it_t c eJ36
                          refine A_iload Γ dX1_cold_165 9 rfl ?_
                          refine A_if_eq (t := 174) Γ dX1_cold_167 (by decide) (fun c => ?_) (fun c => ?_)
                          · replace eJ36 := it_t c eJ36
                            refine A_iconst (v := 0) Γ dX1_cold_174 (by decide) ?_
                            obtain rfl := inj1 eJ36
                            exact A_sub [1, 2, 3, 4, 0, 6, 7, 8, 9, 10] rfl hJJ36
                          · replace eJ36 := it_f c eJ36
                            refine A_iconst (v := 1) Γ dX1_cold_170 (by decide) ?_
                            refine A_goto (t := 175) Γ dX1_cold_171 (by decide) ?_
                            obtain rfl := inj1 eJ36
                            exact A_sub [1, 2, 3, 4, 0, 6, 7, 8, 9, 10] rfl hJJ36
                      refine A_if_eq (t := 154) Γ dX1_cold_147 (by decide) (fun c => ?_) (fun c => ?_)
                      · replace eJ34 := it_t c eJ34
                        refine A_iconst (v := 0) Γ dX1_cold_154 (by decide) ?_
                        obtain rfl := inj1 eJ34
                        exact A_sub [1, 2, 3, 4, 6, 7, 8, 9, 10, 0] rfl hJJ34
                      · replace eJ34 := it_f c eJ34
                        refine A_iconst (v := 1) Γ dX1_cold_150 (by decide) ?_
                        refine A_goto (t := 155) Γ dX1_cold_151 (by decide) ?_
                        obtain rfl := inj1 eJ34
                        exact A_sub [1, 2, 3, 4, 6, 7, 8, 9, 10, 0] rfl hJJ34
                    refine A_if_ne (t := 140) Γ dX1_cold_122 (by decide) (fun c => ?_) (fun c => ?_)
                    · replace eJ30 := it_f c eJ30
                      refine A_iconst (v := 0) Γ dX1_cold_140 (by decide) ?_
                      obtain rfl := inj1 eJ30
                      exact A_sub [1, 2, 3, 4, 5, 6, 7, 8, 9, 0] rfl hJJ30
                    · replace eJ30 := it_t c eJ30
                      refine A_iload Γ dX1_cold_125 10 rfl ?_
                      refine A_aload_n Γ dX1_cold_127 1 rfl ?_
                      refine g1_27 Γ Ξ dX1_cold_128 ?_
                      refine A_iload_n Γ dX1_cold_131 2 rfl ?_
                      replace eJ30 := b1 eJ30
                      obtain ⟨v32, e33, eJ30⟩ := eJ30
                      refine r1_27 Γ Ξ e33 dX1_cold_132 ?_
                      refine A_icmp_le (t := 140) Γ dX1_cold_133 (by decide) (fun c => ?_) (fun c => ?_)
                      · replace eJ30 := it_t c eJ30
                        refine A_iconst (v := 0) Γ dX1_cold_140 (by decide) ?_
                        obtain rfl := inj1 eJ30
                        exact A_sub [1, 2, 3, 4, 5, 6, 7, 8, 9, 0] rfl hJJ30
                      · replace eJ30 := it_f c eJ30
                        refine A_iconst (v := 1) Γ dX1_cold_136 (by decide) ?_
                        refine A_goto (t := 141) Γ dX1_cold_137 (by decide) ?_
                        obtain rfl := inj1 eJ30
                        exact A_sub [1, 2, 3, 4, 5, 6, 7, 8, 9, 0] rfl hJJ30
                  refine A_icmp_ne (t := 117) Γ dX1_cold_110 (by decide) (fun c => ?_) (fun c => ?_)
                  · replace eJ28 := it_f c eJ28
                    refine A_iconst (v := 0) Γ dX1_cold_117 (by decide) ?_
                    obtain rfl := inj1 eJ28
                    exact A_sub [1, 2, 3, 4, 5, 6, 7, 8, 9, 0] rfl hJJ28
                  · replace eJ28 := it_t c eJ28
                    refine A_iconst (v := 1) Γ dX1_cold_113 (by decide) ?_
                    refine A_goto (t := 118) Γ dX1_cold_114 (by decide) ?_
                    obtain rfl := inj1 eJ28
                    exact A_sub [1, 2, 3, 4, 5, 6, 7, 8, 9, 0] rfl hJJ28
            exact A_sub [5, 6, 7, 8, 4, 3, 2, 1, 0] rfl (hLL15 _ _ _ _ _ _ eLL15)
          · replace h := it_f c h
            refine A_aload_n Γ dX1_cold_49 0 rfl ?_
            refine A_iconst (v := 1) Γ dX1_cold_50 (by decide) ?_
            replace h := b2 h
            obtain ⟨v45, σ46, e44, h⟩ := h
            refine kX1_X1meets Γ Ξ hRm (by decide) (by decide) e44 (Nat.le_of_ble_eq_true rfl) dX1_cold_51 ?_
            obtain ⟨rfl, rfl⟩ := inj2 h
            exact hret _ _ dX1_cold_54
        · replace h := it_t c h
          refine A_aload_n Γ dX1_cold_34 0 rfl ?_
          refine A_iconst (v := 3) Γ dX1_cold_35 (by decide) ?_
          replace h := b2 h
          obtain ⟨v48, σ49, e47, h⟩ := h
          refine kX1_X1meets Γ Ξ hRm (by decide) (by decide) e47 (Nat.le_of_ble_eq_true rfl) dX1_cold_36 ?_
          obtain ⟨rfl, rfl⟩ := inj2 h
          exact hret _ _ dX1_cold_39
      · replace h := it_t c h
        refine A_iconst (v := (-1)) Γ dX1_cold_24 (by decide) ?_
        obtain ⟨rfl, rfl⟩ := inj2 h
        exact hret _ _ dX1_cold_25
theorem mtX1_cold (l : Launch) (X : Xw) {σ σ' : St} {a1 : Int32} {a2 : Int32} {a3 : Int32} {r : Int32} (h : m_cold σ a1 a2 a3 = some (r, σ')) : MetZ 1 l X yX1_cold cX1_cold 12 (some .int) 2 43 [.ref (xo X), .int a1, .int a2, .int a3] σ (some (.int r)) σ' := MetZ.ofAt (by decide) (Nat.le_of_ble_eq_true rfl) (fun G _ Γ Ξ hR hret => wkX1_cold Γ Ξ hR h hret)

set_option maxHeartbeats 4000000 in
set_option maxRecDepth 100000 in
theorem wkX1_mean {G : Gx} {X : Xw} {σ σ' : St} (Γ : Ok G RX1 cX1_mean 8) (Ξ : OkX 1 G X) (hRm : Rm G 3 63) {a1 : Int32} {r : Int32} (h : m_mean σ a1 = some (r, σ')) (hret : ∀ (pc : Nat) (lv : List (Nat × Value)), retIs cX1_mean (some .int) (some (.int r)) pc → At G 8 σ' lv [.int r] pc) : At G 8 σ [(0, .ref (xo X)), (1, .int a1)] [] 0 := by
  rw [m_mean] at h
  refine A_aload_n Γ dX1_mean_0 0 rfl ?_
  refine A_iload_n Γ dX1_mean_1 1 rfl ?_
  replace h := b2 h
  obtain ⟨v2, σ3, e1, h⟩ := h
  refine kX1_X1askedRow Γ Ξ hRm (by decide) (by decide) e1 (Nat.le_of_ble_eq_true rfl) dX1_mean_2 ?_
  refine A_istore_n (lv' := [(2, .int v2), (0, .ref (xo X)), (1, .int a1)]) Γ dX1_mean_5 (by decide) rfl ?_
  refine A_iload_n Γ dX1_mean_6 0 rfl ?_
  refine A_if_ge (t := 12) Γ dX1_mean_7 (by decide) (fun c => ?_) (fun c => ?_)
  · replace h := it_t c h
    refine A_iconst (v := 0) Γ dX1_mean_12 (by decide) ?_
    refine A_istore_n (lv' := [(3, .int 0), (2, .int v2), (0, .ref (xo X)), (1, .int a1)]) Γ dX1_mean_13 (by decide) rfl ?_
    refine A_lconst (v := 0) Γ dX1_mean_14 (by decide) ?_
    refine A_lstore (lv' := [(4, .long 0), (3, .int 0), (2, .int v2), (0, .ref (xo X)), (1, .int a1)]) Γ dX1_mean_15 (by decide) rfl ?_
    refine A_iconst (v := 0) Γ dX1_mean_17 (by decide) ?_
    refine A_istore (lv' := [(6, .int 0), (4, .long 0), (3, .int 0), (2, .int v2), (0, .ref (xo X)), (1, .int a1)]) Γ dX1_mean_18 (by decide) rfl ?_
    replace h := b2 h
    obtain ⟨x8, x9, eLL4, h⟩ := h
    have hXL4 : At G 8 σ3 [(0, .ref (xo X)), (3, .int x8), (4, .long x9)] [] 87 := by
      refine A_iload_n Γ dX1_mean_87 1 rfl ?_
      replace h := b2 h
      obtain ⟨σ19, x20, eJ18, h⟩ := h
      have hJJ18 : At G 8 σ19 [] [.int x20] 110 := by
        obtain ⟨rfl, rfl⟩ := inj2 h
        exact hret _ _ dX1_mean_110
      refine A_if_ne (t := 99) Γ dX1_mean_88 (by decide) (fun c => ?_) (fun c => ?_)
      · replace eJ18 := it_f c eJ18
        refine A_aload_n Γ dX1_mean_99 0 rfl ?_
        refine A_lload Γ dX1_mean_100 2 rfl ?_
        refine A_iload_n Γ dX1_mean_102 1 rfl ?_
        refine A_i2l Γ dX1_mean_103 ?_
        replace eJ18 := b1 eJ18
        obtain ⟨v22, e21, eJ18⟩ := eJ18
        obtain ⟨rfl, hze21⟩ := nzL_in e21
        refine A_ldiv Γ dX1_mean_104 hze21 ?_
        refine A_l2i Γ dX1_mean_105 ?_
        refine A_iconst (v := 1) Γ dX1_mean_106 (by decide) ?_
        replace eJ18 := b2 eJ18
        obtain ⟨v24, σ25, e23, eJ18⟩ := eJ18
        refine kX1_X1ask Γ Ξ hRm (by decide) (by decide) e23 (Nat.le_of_ble_eq_true rfl) dX1_mean_107 ?_
        obtain ⟨rfl, rfl⟩ := inj2 eJ18
        exact A_sub [] rfl hJJ18
      · replace eJ18 := it_t c eJ18
        refine A_aload_n Γ dX1_mean_91 0 rfl ?_
        refine A_iconst (v := 4) Γ dX1_mean_92 (by decide) ?_
        replace eJ18 := b2 eJ18
        obtain ⟨v27, σ28, e26, eJ18⟩ := eJ18
        refine kX1_X1meets Γ Ξ hRm (by decide) (by decide) e26 (Nat.le_of_ble_eq_true rfl) dX1_mean_93 ?_
        refine A_goto (t := 110) Γ dX1_mean_96 (by decide) ?_
        obtain ⟨rfl, rfl⟩ := inj2 eJ18
        exact A_sub [] rfl hJJ18
    replace eLL4 := lq3_ex eLL4
    obtain ⟨nL4, eLL4⟩ := eLL4
    have hLL4 : ∀ (nL4 : Nat) (x5 : Int32) (x6 : Int64) (x7 : Int32), lpf3 (m_mean_L4 a1 σ3) nL4 x5 x6 x7 = some (x8, x9) → At G 8 σ3 [(0, .ref (xo X)), (1, .int a1), (3, .int x5), (4, .long x6), (6, .int x7)] [] 20 := by
      intro nL4
      induction nL4 with
      | zero => intro x5 x6 x7 eL4; exact (lpf3_0 eL4).elim
      | succ nL4 ihL4 =>
        intro x5 x6 x7 eL4
        replace eL4 := lpf3_s eL4
        obtain ⟨qL4, eL4, hqL4⟩ := eL4
        rw [m_mean_L4] at eL4
        refine A_iload Γ dX1_mean_20 4 rfl ?_
        refine A_aload_n Γ dX1_mean_22 0 rfl ?_
        refine g1_6 Γ Ξ dX1_mean_23 ?_
        refine A_iload_n Γ dX1_mean_26 1 rfl ?_
        replace eL4 := b1 eL4
        obtain ⟨v10, e11, eL4⟩ := eL4
        refine r1_6 Γ Ξ e11 dX1_mean_27 ?_
        refine A_icmp_ge (t := 87) Γ dX1_mean_28 (by decide) (fun c => ?_) (fun c => ?_)
        · replace eL4 := it_t c eL4
          obtain ⟨rfl, rfl⟩ := pr2 (lpx3 eL4 hqL4)
          exact A_sub [0, 2, 3] rfl hXL4
        · replace eL4 := it_f c eL4
          refine A_aload_n Γ dX1_mean_31 0 rfl ?_
          refine g1_7 Γ Ξ dX1_mean_32 ?_
          refine A_bipush (v := 40) Γ dX1_mean_35 (by decide) ?_
          refine A_iload_n Γ dX1_mean_37 1 rfl ?_
          refine A_imul Γ dX1_mean_38 ?_
          refine A_iload Γ dX1_mean_39 4 rfl ?_
          refine A_iadd Γ dX1_mean_41 ?_
          replace eL4 := b1 eL4
          obtain ⟨v12, e13, eL4⟩ := eL4
          refine r1_7 Γ Ξ e13 dX1_mean_42 ?_
          refine A_istore (lv' := [(7, .int v12), (0, .ref (xo X)), (1, .int a1), (3, .int x5), (4, .long x6), (6, .int x7)]) Γ dX1_mean_43 (by decide) rfl ?_
          refine A_iload_n Γ dX1_mean_45 3 rfl ?_
          refine A_iload Γ dX1_mean_46 0 rfl ?_
          refine A_sipush (v := (-999)) Γ dX1_mean_48 (by decide) ?_
          replace eL4 := b1 eL4
          obtain ⟨x15, eJ14, eL4⟩ := eL4
          have hJJ14 : At G 8 σ3 [(0, .ref (xo X)), (1, .int a1), (4, .long x6), (6, .int x7), (7, .int v12)] [.int x15, .int x5] 59 := by
            refine A_iadd Γ dX1_mean_59 ?_
            refine A_istore_n (lv' := [(3, .int (x5 + x15)), (0, .ref (xo X)), (1, .int a1), (4, .long x6), (6, .int x7), (7, .int v12)]) Γ dX1_mean_60 (by decide) rfl ?_
            refine A_lload Γ dX1_mean_61 3 rfl ?_
            refine A_iload Γ dX1_mean_63 5 rfl ?_
            refine A_sipush (v := (-999)) Γ dX1_mean_65 (by decide) ?_
            replace eL4 := b1 eL4
            obtain ⟨x17, eJ16, eL4⟩ := eL4
            have hJJ16 : At G 8 σ3 [(0, .ref (xo X)), (1, .int a1), (3, .int (x5 + x15)), (6, .int x7)] [.long x17, .long x6] 78 := by
              refine A_ladd Γ dX1_mean_78 ?_
              refine A_lstore (lv' := [(4, .long (x6 + x17)), (0, .ref (xo X)), (1, .int a1), (3, .int (x5 + x15)), (6, .int x7)]) Γ dX1_mean_79 (by decide) rfl ?_
              refine A_iinc (v := x7 + 1) (lv' := [(6, .int (x7 + 1)), (4, .long (x6 + x17)), (0, .ref (xo X)), (1, .int a1), (3, .int (x5 + x15))]) Γ dX1_mean_81 4 rfl rfl (by decide) rfl ?_
              refine A_goto (t := 20) Γ dX1_mean_84 (by decide) ?_
              exact A_sub [2, 3, 4, 1, 0] rfl (ihL4 _ _ _ (lpc3 eL4 hqL4))
            refine A_icmp_ne (t := 75) Γ dX1_mean_68 (by decide) (fun c => ?_) (fun c => ?_)
            · replace eJ16 := it_f c eJ16
              refine A_iload Γ dX1_mean_75 5 rfl ?_
              refine A_i2l Γ dX1_mean_77 ?_
              obtain rfl := inj1 eJ16
              exact A_sub [1, 2, 0, 4] rfl hJJ16
            · replace eJ16 := it_t c eJ16
              refine A_lconst (v := 0) Γ dX1_mean_71 (by decide) ?_
              refine A_goto (t := 78) Γ dX1_mean_72 (by decide) ?_
              obtain rfl := inj1 eJ16
              exact A_sub [1, 2, 0, 4] rfl hJJ16
          refine A_icmp_ne (t := 58) Γ dX1_mean_51 (by decide) (fun c => ?_) (fun c => ?_)
          · replace eJ14 := it_f c eJ14
            refine A_iconst (v := 1) Γ dX1_mean_58 (by decide) ?_
            obtain rfl := inj1 eJ14
            exact A_sub [1, 2, 4, 5, 0] rfl hJJ14
          · replace eJ14 := it_t c eJ14
            refine A_iconst (v := 0) Γ dX1_mean_54 (by decide) ?_
            refine A_goto (t := 59) Γ dX1_mean_55 (by decide) ?_
            obtain rfl := inj1 eJ14
            exact A_sub [1, 2, 4, 5, 0] rfl hJJ14
    exact A_sub [4, 5, 2, 1, 0] rfl (hLL4 _ _ _ _ eLL4)
  · replace h := it_f c h
    refine A_iload_n Γ dX1_mean_10 0 rfl ?_
    obtain ⟨rfl, rfl⟩ := inj2 h
    exact hret _ _ dX1_mean_11
theorem mtX1_mean (l : Launch) (X : Xw) {σ σ' : St} {a1 : Int32} {r : Int32} (h : m_mean σ a1 = some (r, σ')) : MetZ 1 l X yX1_mean cX1_mean 8 (some .int) 3 63 [.ref (xo X), .int a1] σ (some (.int r)) σ' := MetZ.ofAt (by decide) (Nat.le_of_ble_eq_true rfl) (fun G _ Γ Ξ hR hret => wkX1_mean Γ Ξ hR h hret)

set_option maxHeartbeats 4000000 in
set_option maxRecDepth 100000 in
theorem wkX1_findTheft {G : Gx} {X : Xw} {σ σ' : St} (Γ : Ok G RX1 cX1_findTheft 3) (Ξ : OkX 1 G X) (hRm : Rm G 0 0) {a1 : Int32} {r : Int32} (h : m_findTheft σ a1 = some (r, σ')) (hret : ∀ (pc : Nat) (lv : List (Nat × Value)), retIs cX1_findTheft (some .boolean) (some (.int r)) pc → At G 3 σ' lv [.int r] pc) : At G 3 σ [(0, .ref (xo X)), (1, .int a1)] [] 0 := by
  rw [m_findTheft] at h
  refine A_aload_n Γ dX1_findTheft_0 0 rfl ?_
  refine A_bipush (v := (-9)) Γ dX1_findTheft_1 (by decide) ?_
  refine p1_48 Γ Ξ dX1_findTheft_3 ?_
  refine A_aload_n Γ dX1_findTheft_6 0 rfl ?_
  refine A_bipush (v := (-9)) Γ dX1_findTheft_7 (by decide) ?_
  refine p1_49 Γ Ξ dX1_findTheft_9 ?_
  refine A_iconst (v := 0) Γ dX1_findTheft_12 (by decide) ?_
  refine A_istore_n (lv' := [(2, .int 0), (0, .ref (xo X)), (1, .int a1)]) Γ dX1_findTheft_13 (by decide) rfl ?_
  replace h := b1 h
  obtain ⟨σ4, eLL1, h⟩ := h
  have hXL1 : At G 3 σ4 [(0, .ref (xo X)), (1, .int a1)] [] 60 := by
    refine A_iconst (v := 0) Γ dX1_findTheft_60 (by decide) ?_
    refine A_istore_n (lv' := [(2, .int 0), (0, .ref (xo X)), (1, .int a1)]) Γ dX1_findTheft_61 (by decide) rfl ?_
    replace h := b1 h
    obtain ⟨σ14, eLL11, h⟩ := h
    have hXL11 : At G 3 σ14 [(0, .ref (xo X))] [] 118 := by
      refine A_aload_n Γ dX1_findTheft_118 0 rfl ?_
      refine g1_49 Γ Ξ dX1_findTheft_119 ?_
      replace h := b1 h
      obtain ⟨x24, eJ23, h⟩ := h
      have hJJ23 : At G 3 σ14 [] [.int x24] 130 := by
        replace h := b1 h
        obtain ⟨v26, e25, h⟩ := h
        obtain ⟨rfl, hze25⟩ := bZ_in e25
        obtain ⟨rfl, rfl⟩ := inj2 h
        exact hret _ _ ⟨dX1_findTheft_130, hze25⟩
      refine A_if_lt (t := 129) Γ dX1_findTheft_122 (by decide) (fun c => ?_) (fun c => ?_)
      · replace eJ23 := it_t c eJ23
        refine A_iconst (v := 0) Γ dX1_findTheft_129 (by decide) ?_
        obtain rfl := inj1 eJ23
        exact A_sub [] rfl hJJ23
      · replace eJ23 := it_f c eJ23
        refine A_iconst (v := 1) Γ dX1_findTheft_125 (by decide) ?_
        refine A_goto (t := 130) Γ dX1_findTheft_126 (by decide) ?_
        obtain rfl := inj1 eJ23
        exact A_sub [] rfl hJJ23
    replace eLL11 := lq2_ex eLL11
    obtain ⟨nL11, eLL11⟩ := eLL11
    have hLL11 : ∀ (nL11 : Nat) (σ12 : St) (x13 : Int32), lpf2 (m_findTheft_L11 a1) nL11 σ12 x13 = some σ14 → At G 3 σ12 [(0, .ref (xo X)), (1, .int a1), (2, .int x13)] [] 62 := by
      intro nL11
      induction nL11 with
      | zero => intro σ12 x13 eL11; exact (lpf2_0 eL11).elim
      | succ nL11 ihL11 =>
        intro σ12 x13 eL11
        replace eL11 := lpf2_s eL11
        obtain ⟨qL11, eL11, hqL11⟩ := eL11
        rw [m_findTheft_L11] at eL11
        refine A_iload_n Γ dX1_findTheft_62 2 rfl ?_
        refine A_aload_n Γ dX1_findTheft_63 0 rfl ?_
        refine g1_49 Γ Ξ dX1_findTheft_64 ?_
        refine A_icmp_ge (t := 118) Γ dX1_findTheft_67 (by decide) (fun c => ?_) (fun c => ?_)
        · replace eL11 := it_t c eL11
          obtain rfl := pr1 (lpx2 eL11 hqL11)
          exact A_sub [0] rfl hXL11
        · replace eL11 := it_f c eL11
          refine A_aload_n Γ dX1_findTheft_70 0 rfl ?_
          refine A_aload_n Γ dX1_findTheft_71 0 rfl ?_
          refine g1_35 Γ Ξ dX1_findTheft_72 ?_
          refine A_iload_n Γ dX1_findTheft_75 2 rfl ?_
          replace eL11 := b1 eL11
          obtain ⟨v15, e16, eL11⟩ := eL11
          refine r1_35 Γ Ξ e16 dX1_findTheft_76 ?_
          refine A_iload_n Γ dX1_findTheft_77 1 rfl ?_
          replace eL11 := b1 eL11
          obtain ⟨x18, eJ17, eL11⟩ := eL11
          have hJJ17 : At G 3 σ12 [(0, .ref (xo X)), (1, .int a1), (2, .int x13)] [.int x18, .ref (xo X)] 109 := by
            refine p1_48 Γ Ξ dX1_findTheft_109 ?_
            refine A_iinc (v := x13 + 1) (lv' := [(2, .int (x13 + 1)), (0, .ref (xo X)), (1, .int a1)]) Γ dX1_findTheft_112 2 rfl rfl (by decide) rfl ?_
            refine A_goto (t := 62) Γ dX1_findTheft_115 (by decide) ?_
            exact A_sub [1, 2, 0] rfl (ihL11 _ _ (lpc2 eL11 hqL11))
          refine A_icmp_ne (t := 105) Γ dX1_findTheft_78 (by decide) (fun c => ?_) (fun c => ?_)
          · replace eJ17 := it_f c eJ17
            refine A_aload_n Γ dX1_findTheft_105 0 rfl ?_
            refine g1_48 Γ Ξ dX1_findTheft_106 ?_
            obtain rfl := inj1 eJ17
            exact A_sub [0, 1, 2] rfl hJJ17
          · replace eJ17 := it_t c eJ17
            refine A_aload_n Γ dX1_findTheft_81 0 rfl ?_
            refine g1_36 Γ Ξ dX1_findTheft_82 ?_
            refine A_iload_n Γ dX1_findTheft_85 2 rfl ?_
            replace eJ17 := b1 eJ17
            obtain ⟨v19, e20, eJ17⟩ := eJ17
            refine r1_36 Γ Ξ e20 dX1_findTheft_86 ?_
            refine A_iconst (v := 3) Γ dX1_findTheft_87 (by decide) ?_
            refine A_icmp_eq (t := 101) Γ dX1_findTheft_88 (by decide) (fun c => ?_) (fun c => ?_)
            · replace eJ17 := it_t c eJ17
              refine A_iload_n Γ dX1_findTheft_101 2 rfl ?_
              refine A_goto (t := 109) Γ dX1_findTheft_102 (by decide) ?_
              obtain rfl := inj1 eJ17
              exact A_sub [0, 1, 2] rfl hJJ17
            · replace eJ17 := it_f c eJ17
              refine A_aload_n Γ dX1_findTheft_91 0 rfl ?_
              refine g1_36 Γ Ξ dX1_findTheft_92 ?_
              refine A_iload_n Γ dX1_findTheft_95 2 rfl ?_
              replace eJ17 := b1 eJ17
              obtain ⟨v21, e22, eJ17⟩ := eJ17
              refine r1_36 Γ Ξ e22 dX1_findTheft_96 ?_
              refine A_iconst (v := 4) Γ dX1_findTheft_97 (by decide) ?_
              refine A_icmp_ne (t := 105) Γ dX1_findTheft_98 (by decide) (fun c => ?_) (fun c => ?_)
              · replace eJ17 := it_f c eJ17
                refine A_aload_n Γ dX1_findTheft_105 0 rfl ?_
                refine g1_48 Γ Ξ dX1_findTheft_106 ?_
                obtain rfl := inj1 eJ17
                exact A_sub [0, 1, 2] rfl hJJ17
              · replace eJ17 := it_t c eJ17
                refine A_iload_n Γ dX1_findTheft_101 2 rfl ?_
                refine A_goto (t := 109) Γ dX1_findTheft_102 (by decide) ?_
                obtain rfl := inj1 eJ17
                exact A_sub [0, 1, 2] rfl hJJ17
    exact A_sub [1, 2, 0] rfl (hLL11 _ _ _ eLL11)
  replace eLL1 := lq2_ex eLL1
  obtain ⟨nL1, eLL1⟩ := eLL1
  have hLL1 : ∀ (nL1 : Nat) (σ2 : St) (x3 : Int32), lpf2 (m_findTheft_L1 a1) nL1 σ2 x3 = some σ4 → At G 3 σ2 [(0, .ref (xo X)), (1, .int a1), (2, .int x3)] [] 14 := by
    intro nL1
    induction nL1 with
    | zero => intro σ2 x3 eL1; exact (lpf2_0 eL1).elim
    | succ nL1 ihL1 =>
      intro σ2 x3 eL1
      replace eL1 := lpf2_s eL1
      obtain ⟨qL1, eL1, hqL1⟩ := eL1
      rw [m_findTheft_L1] at eL1
      refine A_iload_n Γ dX1_findTheft_14 2 rfl ?_
      refine A_aload_n Γ dX1_findTheft_15 0 rfl ?_
      refine g1_34 Γ Ξ dX1_findTheft_16 ?_
      refine A_icmp_ge (t := 60) Γ dX1_findTheft_19 (by decide) (fun c => ?_) (fun c => ?_)
      · replace eL1 := it_t c eL1
        obtain rfl := pr1 (lpx2 eL1 hqL1)
        exact A_sub [0, 1] rfl hXL1
      · replace eL1 := it_f c eL1
        refine A_aload_n Γ dX1_findTheft_22 0 rfl ?_
        refine A_aload_n Γ dX1_findTheft_23 0 rfl ?_
        refine g1_35 Γ Ξ dX1_findTheft_24 ?_
        refine A_iload_n Γ dX1_findTheft_27 2 rfl ?_
        replace eL1 := b1 eL1
        obtain ⟨v5, e6, eL1⟩ := eL1
        refine r1_35 Γ Ξ e6 dX1_findTheft_28 ?_
        refine A_iload_n Γ dX1_findTheft_29 1 rfl ?_
        replace eL1 := b1 eL1
        obtain ⟨x8, eJ7, eL1⟩ := eL1
        have hJJ7 : At G 3 σ2 [(0, .ref (xo X)), (1, .int a1), (2, .int x3)] [.int x8, .ref (xo X)] 51 := by
          refine p1_49 Γ Ξ dX1_findTheft_51 ?_
          refine A_iinc (v := x3 + 1) (lv' := [(2, .int (x3 + 1)), (0, .ref (xo X)), (1, .int a1)]) Γ dX1_findTheft_54 2 rfl rfl (by decide) rfl ?_
          refine A_goto (t := 14) Γ dX1_findTheft_57 (by decide) ?_
          exact A_sub [1, 2, 0] rfl (ihL1 _ _ (lpc2 eL1 hqL1))
        refine A_icmp_ne (t := 47) Γ dX1_findTheft_30 (by decide) (fun c => ?_) (fun c => ?_)
        · replace eJ7 := it_f c eJ7
          refine A_aload_n Γ dX1_findTheft_47 0 rfl ?_
          refine g1_49 Γ Ξ dX1_findTheft_48 ?_
          obtain rfl := inj1 eJ7
          exact A_sub [0, 1, 2] rfl hJJ7
        · replace eJ7 := it_t c eJ7
          refine A_aload_n Γ dX1_findTheft_33 0 rfl ?_
          refine g1_36 Γ Ξ dX1_findTheft_34 ?_
          refine A_iload_n Γ dX1_findTheft_37 2 rfl ?_
          replace eJ7 := b1 eJ7
          obtain ⟨v9, e10, eJ7⟩ := eJ7
          refine r1_36 Γ Ξ e10 dX1_findTheft_38 ?_
          refine A_iconst (v := 5) Γ dX1_findTheft_39 (by decide) ?_
          refine A_icmp_ne (t := 47) Γ dX1_findTheft_40 (by decide) (fun c => ?_) (fun c => ?_)
          · replace eJ7 := it_f c eJ7
            refine A_aload_n Γ dX1_findTheft_47 0 rfl ?_
            refine g1_49 Γ Ξ dX1_findTheft_48 ?_
            obtain rfl := inj1 eJ7
            exact A_sub [0, 1, 2] rfl hJJ7
          · replace eJ7 := it_t c eJ7
            refine A_iload_n Γ dX1_findTheft_43 2 rfl ?_
            refine A_goto (t := 51) Γ dX1_findTheft_44 (by decide) ?_
            obtain rfl := inj1 eJ7
            exact A_sub [0, 1, 2] rfl hJJ7
  exact A_sub [1, 2, 0] rfl (hLL1 _ _ _ eLL1)
theorem mtX1_findTheft (l : Launch) (X : Xw) {σ σ' : St} {a1 : Int32} {r : Int32} (h : m_findTheft σ a1 = some (r, σ')) : MetZ 1 l X yX1_findTheft cX1_findTheft 3 (some .boolean) 0 0 [.ref (xo X), .int a1] σ (some (.int r)) σ' := MetZ.ofAt (by decide) (Nat.le_of_ble_eq_true rfl) (fun G _ Γ Ξ hR hret => wkX1_findTheft Γ Ξ hR h hret)
theorem kX1_X1findTheft {G : Gx} {X : Xw} {cc : ByteArray} {nL pc F LO : Nat} {σ σ' : St} {lv : List (Nat × Value)} {st : List Value} (Γ : Ok G RX1 cc nL) (Ξ : OkX 1 G X) {a1 : Int32} {r : Int32} (hRm : Rm G F LO) (hf : 0 + 1 ≤ F) (hlo : 8 + (3 + 11) + 0 ≤ LO) (h : m_findTheft σ a1 = some (r, σ')) (hW : (st.map fun v => v.category).sum ≤ 8) (d : decode cc pc = .ok (.invokevirtual 311, 3)) (kk : At G nL σ' lv (.int r :: st) (pc + 3)) : At G nL σ lv (.int a1 :: .ref (xo X) :: st) pc := A_callV Γ Ξ rfl rfl (mtX1_findTheft (gl G) X h) (lw_V q1562 q1564 qs51 q64 q1565) (n := 1) (by decide +kernel) (rm_ok hRm hf hlo) (rm_k hRm) rfl rfl hW d kk
set_option maxHeartbeats 4000000 in
set_option maxRecDepth 100000 in
theorem wkX1_theft {G : Gx} {X : Xw} {σ σ' : St} (Γ : Ok G RX1 cX1_theft 2) (Ξ : OkX 1 G X) (hRm : Rm G 2 43) {a1 : Int32} {r : Int32} (h : m_theft σ a1 = some (r, σ')) (hret : ∀ (pc : Nat) (lv : List (Nat × Value)), retIs cX1_theft (some .int) (some (.int r)) pc → At G 2 σ' lv [.int r] pc) : At G 2 σ [(0, .ref (xo X)), (1, .int a1)] [] 0 := by
  rw [m_theft] at h
  refine A_aload_n Γ dX1_theft_0 0 rfl ?_
  refine A_iload_n Γ dX1_theft_1 1 rfl ?_
  replace h := b1 h
  obtain ⟨v2, e1, h⟩ := h
  refine kX1_X1isTrailer Γ Ξ hRm (by decide) (by decide) e1 (Nat.le_of_ble_eq_true rfl) dX1_theft_2 ?_
  refine A_if_ne (t := 10) Γ dX1_theft_5 (by decide) (fun c => ?_) (fun c => ?_)
  · replace h := it_f c h
    refine A_aload_n Γ dX1_theft_10 0 rfl ?_
    refine A_iload_n Γ dX1_theft_11 1 rfl ?_
    replace h := b2 h
    obtain ⟨v4, σ5, e3, h⟩ := h
    refine kX1_X1findTheft Γ Ξ hRm (by decide) (by decide) e3 (Nat.le_of_ble_eq_true rfl) dX1_theft_12 ?_
    replace h := b2 h
    obtain ⟨σ7, x8, eJ6, h⟩ := h
    have hJJ6 : At G 2 σ7 [] [.int x8] 55 := by
      obtain ⟨rfl, rfl⟩ := inj2 h
      exact hret _ _ dX1_theft_55
    refine A_if_eq (t := 53) Γ dX1_theft_15 (by decide) (fun c => ?_) (fun c => ?_)
    · replace eJ6 := it_t c eJ6
      refine A_bipush (v := (-4)) Γ dX1_theft_53 (by decide) ?_
      obtain ⟨rfl, rfl⟩ := inj2 eJ6
      exact A_sub [] rfl hJJ6
    · replace eJ6 := it_f c eJ6
      refine A_aload_n Γ dX1_theft_18 0 rfl ?_
      refine A_aload_n Γ dX1_theft_19 0 rfl ?_
      refine g1_37 Γ Ξ dX1_theft_20 ?_
      refine A_aload_n Γ dX1_theft_23 0 rfl ?_
      refine g1_48 Γ Ξ dX1_theft_24 ?_
      replace eJ6 := b1 eJ6
      obtain ⟨v9, e10, eJ6⟩ := eJ6
      refine r1_37 Γ Ξ e10 dX1_theft_27 ?_
      refine A_aload_n Γ dX1_theft_28 0 rfl ?_
      refine g1_37 Γ Ξ dX1_theft_29 ?_
      refine A_aload_n Γ dX1_theft_32 0 rfl ?_
      refine g1_49 Γ Ξ dX1_theft_33 ?_
      replace eJ6 := b1 eJ6
      obtain ⟨v11, e12, eJ6⟩ := eJ6
      refine r1_37 Γ Ξ e12 dX1_theft_36 ?_
      refine A_aload_n Γ dX1_theft_37 0 rfl ?_
      refine g1_37 Γ Ξ dX1_theft_38 ?_
      refine A_aload_n Γ dX1_theft_41 0 rfl ?_
      refine g1_48 Γ Ξ dX1_theft_42 ?_
      replace eJ6 := b1 eJ6
      obtain ⟨v13, e14, eJ6⟩ := eJ6
      refine r1_37 Γ Ξ e14 dX1_theft_45 ?_
      refine A_isub Γ dX1_theft_46 ?_
      replace eJ6 := b2 eJ6
      obtain ⟨v16, σ17, e15, eJ6⟩ := eJ6
      refine kX1_X1ask Γ Ξ hRm (by decide) (by decide) e15 (Nat.le_of_ble_eq_true rfl) dX1_theft_47 ?_
      refine A_goto (t := 55) Γ dX1_theft_50 (by decide) ?_
      obtain ⟨rfl, rfl⟩ := inj2 eJ6
      exact A_sub [] rfl hJJ6
  · replace h := it_t c h
    refine A_iconst (v := (-1)) Γ dX1_theft_8 (by decide) ?_
    obtain ⟨rfl, rfl⟩ := inj2 h
    exact hret _ _ dX1_theft_9
theorem mtX1_theft (l : Launch) (X : Xw) {σ σ' : St} {a1 : Int32} {r : Int32} (h : m_theft σ a1 = some (r, σ')) : MetZ 1 l X yX1_theft cX1_theft 2 (some .int) 2 43 [.ref (xo X), .int a1] σ (some (.int r)) σ' := MetZ.ofAt (by decide) (Nat.le_of_ble_eq_true rfl) (fun G _ Γ Ξ hR hret => wkX1_theft Γ Ξ hR h hret)

set_option maxHeartbeats 4000000 in
set_option maxRecDepth 100000 in
theorem wkX1_bits {G : Gx} {X : Xw} {σ : St} (Γ : Ok G RX1 cX1_bits 3) (hkp : ∀ (H H1 : Heap), gP G σ H → (∀ q : Nat, q < H.size → H1[q]? = H[q]?) → gP G σ H1) (hRm : Rm G 0 0) {a0 : Int32} {r : Int32} (h : m_bits a0 = some r) (hret : ∀ (pc : Nat) (lv : List (Nat × Value)), retIs cX1_bits (some .int) (some (.int r)) pc → At G 3 σ lv [.int r] pc) : At G 3 σ [(0, .int a0)] [] 0 := by
  rw [m_bits] at h
  refine A_iconst (v := 0) Γ dX1_bits_0 (by decide) ?_
  refine A_istore_n (lv' := [(1, .int 0), (0, .int a0)]) Γ dX1_bits_1 (by decide) rfl ?_
  refine A_iconst (v := 0) Γ dX1_bits_2 (by decide) ?_
  refine A_istore_n (lv' := [(2, .int 0), (1, .int 0), (0, .int a0)]) Γ dX1_bits_3 (by decide) rfl ?_
  replace h := b1 h
  obtain ⟨x4, eLL1, h⟩ := h
  have hXL1 : At G 3 σ [(1, .int x4)] [] 24 := by
    refine A_iload_n Γ dX1_bits_24 0 rfl ?_
    obtain rfl := inj1 h
    exact hret _ _ dX1_bits_25
  replace eLL1 := lq2_ex eLL1
  obtain ⟨nL1, eLL1⟩ := eLL1
  have hLL1 : ∀ (nL1 : Nat) (x2 : Int32) (x3 : Int32), lpf2 (m_bits_L1 a0) nL1 x2 x3 = some x4 → At G 3 σ [(0, .int a0), (1, .int x2), (2, .int x3)] [] 4 := by
    intro nL1
    induction nL1 with
    | zero => intro x2 x3 eL1; exact (lpf2_0 eL1).elim
    | succ nL1 ihL1 =>
      intro x2 x3 eL1
      replace eL1 := lpf2_s eL1
      obtain ⟨qL1, eL1, hqL1⟩ := eL1
      rw [m_bits_L1] at eL1
      refine A_iload_n Γ dX1_bits_4 2 rfl ?_
      refine A_bipush (v := 14) Γ dX1_bits_5 (by decide) ?_
      refine A_icmp_ge (t := 24) Γ dX1_bits_7 (by decide) (fun c => ?_) (fun c => ?_)
      · replace eL1 := it_t c eL1
        obtain rfl := pr1 (lpx2 eL1 hqL1)
        exact A_sub [1] rfl hXL1
      · replace eL1 := it_f c eL1
        refine A_iload_n Γ dX1_bits_10 1 rfl ?_
        refine A_iload_n Γ dX1_bits_11 0 rfl ?_
        refine A_iload_n Γ dX1_bits_12 2 rfl ?_
        refine A_ishr Γ dX1_bits_13 ?_
        refine A_iconst (v := 1) Γ dX1_bits_14 (by decide) ?_
        refine A_iand Γ dX1_bits_15 ?_
        refine A_iadd Γ dX1_bits_16 ?_
        refine A_istore_n (lv' := [(1, .int (x2 + ((a0 >>> (x3 &&& 31)) &&& 1))), (0, .int a0), (2, .int x3)]) Γ dX1_bits_17 (by decide) rfl ?_
        refine A_iinc (v := x3 + 1) (lv' := [(2, .int (x3 + 1)), (1, .int (x2 + ((a0 >>> (x3 &&& 31)) &&& 1))), (0, .int a0)]) Γ dX1_bits_18 2 rfl rfl (by decide) rfl ?_
        refine A_goto (t := 4) Γ dX1_bits_21 (by decide) ?_
        exact A_sub [2, 1, 0] rfl (ihL1 _ _ (lpc2 eL1 hqL1))
  exact A_sub [2, 1, 0] rfl (hLL1 _ _ _ eLL1)
theorem mtX1_bits (l : Launch) {a0 : Int32} {r : Int32} (h : m_bits a0 = some r) : MetS l yX1_bits cX1_bits 3 (some .int) 0 0 [.int a0] (some (.int r)) := MetS.ofAt ((fun _ => 0), (fun _ => 0), (fun _ _ => 0), (fun _ _ => 0), fun _ => none) (by decide) (Nat.le_of_ble_eq_true rfl) (fun G _ Γ hR hp hret => wkX1_bits (X := (0, (fun _ => 0), (fun _ => 0), (fun _ _ => 0), (fun _ => 0), (fun _ => True))) Γ hp hR h hret)
theorem kX1_X1bits {G : Gx} {cc : ByteArray} {nL pc F LO : Nat} {σ : St} {lv : List (Nat × Value)} {st : List Value} (Γ : Ok G RX1 cc nL) (hkp : ∀ (H H1 : Heap), gP G σ H → (∀ q : Nat, q < H.size → H1[q]? = H[q]?) → gP G σ H1) {a0 : Int32} {r : Int32} (hRm : Rm G F LO) (hf : 0 + 1 ≤ F) (hlo : 8 + (3 + 11) + 0 ≤ LO) (h : m_bits a0 = some r) (hW : (st.map fun v => v.category).sum ≤ 8) (d : decode cc pc = .ok (.invokestatic 314, 3)) (kk : At G nL σ lv (.int r :: st) (pc + 3)) : At G nL σ lv (.int a0 :: st) pc := A_callS Γ hkp rfl (mtX1_bits (gl G) h) (lw_S q1570 q1571 q64 q1572) (n := 1) (by decide +kernel) (rm_ok hRm hf hlo) (rm_k hRm) rfl rfl hW d kk
set_option maxHeartbeats 4000000 in
set_option maxRecDepth 100000 in
theorem wkX1_hands {G : Gx} {X : Xw} {σ σ' : St} (Γ : Ok G RX1 cX1_hands 5) (Ξ : OkX 1 G X) (hRm : Rm G 2 43) {a1 : Int32} {r : Int32} (h : m_hands σ a1 = some (r, σ')) (hret : ∀ (pc : Nat) (lv : List (Nat × Value)), retIs cX1_hands (some .int) (some (.int r)) pc → At G 5 σ' lv [.int r] pc) : At G 5 σ [(0, .ref (xo X)), (1, .int a1)] [] 0 := by
  rw [m_hands] at h
  refine A_aload_n Γ dX1_hands_0 0 rfl ?_
  refine A_iload_n Γ dX1_hands_1 1 rfl ?_
  replace h := b1 h
  obtain ⟨v2, e1, h⟩ := h
  refine kX1_X1isTrailer Γ Ξ hRm (by decide) (by decide) e1 (Nat.le_of_ble_eq_true rfl) dX1_hands_2 ?_
  refine A_if_ne (t := 10) Γ dX1_hands_5 (by decide) (fun c => ?_) (fun c => ?_)
  · replace h := it_f c h
    refine A_aload_n Γ dX1_hands_10 0 rfl ?_
    refine A_iload_n Γ dX1_hands_11 1 rfl ?_
    replace h := b2 h
    obtain ⟨v4, σ5, e3, h⟩ := h
    refine kX1_X1findTheft Γ Ξ hRm (by decide) (by decide) e3 (Nat.le_of_ble_eq_true rfl) dX1_hands_12 ?_
    refine A_if_ne (t := 21) Γ dX1_hands_15 (by decide) (fun c => ?_) (fun c => ?_)
    · replace h := it_f c h
      refine A_iconst (v := 0) Γ dX1_hands_21 (by decide) ?_
      refine A_istore_n (lv' := [(2, .int 0), (0, .ref (xo X)), (1, .int a1)]) Γ dX1_hands_22 (by decide) rfl ?_
      refine A_iconst (v := 0) Γ dX1_hands_23 (by decide) ?_
      refine A_istore_n (lv' := [(3, .int 0), (2, .int 0), (0, .ref (xo X)), (1, .int a1)]) Γ dX1_hands_24 (by decide) rfl ?_
      replace h := b1 h
      obtain ⟨x9, eLL6, h⟩ := h
      have hXL6 : At G 5 σ5 [(0, .ref (xo X)), (2, .int x9)] [] 97 := by
        refine A_aload_n Γ dX1_hands_97 0 rfl ?_
        refine A_iload_n Γ dX1_hands_98 1 rfl ?_
        refine A_iload_n Γ dX1_hands_99 1 rfl ?_
        replace h := b1 h
        obtain ⟨v23, e22, h⟩ := h
        refine kX1_X1bits Γ (kpX Ξ) hRm (by decide) (by decide) e22 (Nat.le_of_ble_eq_true rfl) dX1_hands_100 ?_
        replace h := b2 h
        obtain ⟨v25, σ26, e24, h⟩ := h
        refine kX1_X1ask Γ Ξ hRm (by decide) (by decide) e24 (Nat.le_of_ble_eq_true rfl) dX1_hands_103 ?_
        obtain ⟨rfl, rfl⟩ := inj2 h
        exact hret _ _ dX1_hands_106
      replace eLL6 := lq2_ex eLL6
      obtain ⟨nL6, eLL6⟩ := eLL6
      have hLL6 : ∀ (nL6 : Nat) (x7 : Int32) (x8 : Int32), lpf2 (m_hands_L6 a1 σ5) nL6 x7 x8 = some x9 → At G 5 σ5 [(0, .ref (xo X)), (1, .int a1), (2, .int x7), (3, .int x8)] [] 25 := by
        intro nL6
        induction nL6 with
        | zero => intro x7 x8 eL6; exact (lpf2_0 eL6).elim
        | succ nL6 ihL6 =>
          intro x7 x8 eL6
          replace eL6 := lpf2_s eL6
          obtain ⟨qL6, eL6, hqL6⟩ := eL6
          rw [m_hands_L6] at eL6
          refine A_iload_n Γ dX1_hands_25 3 rfl ?_
          refine A_aload_n Γ dX1_hands_26 0 rfl ?_
          refine g1_49 Γ Ξ dX1_hands_27 ?_
          refine A_icmp_ge (t := 97) Γ dX1_hands_30 (by decide) (fun c => ?_) (fun c => ?_)
          · replace eL6 := it_t c eL6
            obtain rfl := pr1 (lpx2 eL6 hqL6)
            exact A_sub [0, 2] rfl hXL6
          · replace eL6 := it_f c eL6
            refine A_aload_n Γ dX1_hands_33 0 rfl ?_
            refine g1_35 Γ Ξ dX1_hands_34 ?_
            refine A_iload_n Γ dX1_hands_37 3 rfl ?_
            replace eL6 := b1 eL6
            obtain ⟨v10, e11, eL6⟩ := eL6
            refine r1_35 Γ Ξ e11 dX1_hands_38 ?_
            refine A_iload_n Γ dX1_hands_39 1 rfl ?_
            replace eL6 := b1 eL6
            obtain ⟨x13, eJ12, eL6⟩ := eL6
            have hJJ12 : At G 5 σ5 [(0, .ref (xo X)), (1, .int a1), (2, .int x13), (3, .int x8)] [] 91 := by
              refine A_iinc (v := x8 + 1) (lv' := [(3, .int (x8 + 1)), (0, .ref (xo X)), (1, .int a1), (2, .int x13)]) Γ dX1_hands_91 3 rfl rfl (by decide) rfl ?_
              refine A_goto (t := 25) Γ dX1_hands_94 (by decide) ?_
              exact A_sub [1, 2, 3, 0] rfl (ihL6 _ _ (lpc2 eL6 hqL6))
            refine A_icmp_ne (t := 91) Γ dX1_hands_40 (by decide) (fun c => ?_) (fun c => ?_)
            · replace eJ12 := it_f c eJ12
              obtain rfl := inj1 eJ12
              exact A_sub [0, 1, 2, 3] rfl hJJ12
            · replace eJ12 := it_t c eJ12
              refine A_aload_n Γ dX1_hands_43 0 rfl ?_
              refine g1_36 Γ Ξ dX1_hands_44 ?_
              refine A_iload_n Γ dX1_hands_47 3 rfl ?_
              replace eJ12 := b1 eJ12
              obtain ⟨v14, e15, eJ12⟩ := eJ12
              refine r1_36 Γ Ξ e15 dX1_hands_48 ?_
              refine A_iconst (v := 2) Γ dX1_hands_49 (by decide) ?_
              refine A_icmp_ge (t := 91) Γ dX1_hands_50 (by decide) (fun c => ?_) (fun c => ?_)
              · replace eJ12 := it_t c eJ12
                obtain rfl := inj1 eJ12
                exact A_sub [0, 1, 2, 3] rfl hJJ12
              · replace eJ12 := it_f c eJ12
                refine A_iconst (v := 1) Γ dX1_hands_53 (by decide) ?_
                refine A_aload_n Γ dX1_hands_54 0 rfl ?_
                refine g1_38 Γ Ξ dX1_hands_55 ?_
                refine A_iload_n Γ dX1_hands_58 3 rfl ?_
                replace eJ12 := b1 eJ12
                obtain ⟨v16, e17, eJ12⟩ := eJ12
                refine r1_38 Γ Ξ e17 dX1_hands_59 ?_
                refine A_bipush (v := 8) Γ dX1_hands_60 (by decide) ?_
                refine A_aload_n Γ dX1_hands_62 0 rfl ?_
                refine g1_36 Γ Ξ dX1_hands_63 ?_
                refine A_iload_n Γ dX1_hands_66 3 rfl ?_
                replace eJ12 := b1 eJ12
                obtain ⟨v18, e19, eJ12⟩ := eJ12
                refine r1_36 Γ Ξ e19 dX1_hands_67 ?_
                refine A_imul Γ dX1_hands_68 ?_
                refine A_iadd Γ dX1_hands_69 ?_
                refine A_ishl Γ dX1_hands_70 ?_
                refine A_istore (lv' := [(4, .int (1 <<< ((v16 + (8 * v18)) &&& 31))), (0, .ref (xo X)), (1, .int a1), (2, .int x7), (3, .int x8)]) Γ dX1_hands_71 (by decide) rfl ?_
                refine A_iload_n Γ dX1_hands_73 4 rfl ?_
                refine A_aload_n Γ dX1_hands_74 1 rfl ?_
                refine g1_48 Γ Ξ dX1_hands_75 ?_
                replace eJ12 := b1 eJ12
                obtain ⟨x21, eJ20, eJ12⟩ := eJ12
                have hJJ20 : At G 5 σ5 [(0, .ref (xo X)), (1, .int a1), (3, .int x8)] [.int x21] 90 := by
                  refine A_istore_n (lv' := [(2, .int x21), (0, .ref (xo X)), (1, .int a1), (3, .int x8)]) Γ dX1_hands_90 (by decide) rfl ?_
                  obtain rfl := inj1 eJ12
                  exact A_sub [1, 2, 0, 3] rfl hJJ12
                refine A_icmp_ge (t := 86) Γ dX1_hands_78 (by decide) (fun c => ?_) (fun c => ?_)
                · replace eJ20 := it_t c eJ20
                  refine A_iload_n Γ dX1_hands_86 3 rfl ?_
                  refine A_iload Γ dX1_hands_87 0 rfl ?_
                  refine A_ior Γ dX1_hands_89 ?_
                  obtain rfl := inj1 eJ20
                  exact A_sub [1, 2, 4] rfl hJJ20
                · replace eJ20 := it_f c eJ20
                  refine A_iload Γ dX1_hands_81 0 rfl ?_
                  refine A_goto (t := 90) Γ dX1_hands_83 (by decide) ?_
                  obtain rfl := inj1 eJ20
                  exact A_sub [1, 2, 4] rfl hJJ20
      exact A_sub [2, 3, 1, 0] rfl (hLL6 _ _ _ eLL6)
    · replace h := it_t c h
      refine A_bipush (v := (-4)) Γ dX1_hands_18 (by decide) ?_
      obtain ⟨rfl, rfl⟩ := inj2 h
      exact hret _ _ dX1_hands_20
  · replace h := it_t c h
    refine A_iconst (v := (-1)) Γ dX1_hands_8 (by decide) ?_
    obtain ⟨rfl, rfl⟩ := inj2 h
    exact hret _ _ dX1_hands_9
theorem mtX1_hands (l : Launch) (X : Xw) {σ σ' : St} {a1 : Int32} {r : Int32} (h : m_hands σ a1 = some (r, σ')) : MetZ 1 l X yX1_hands cX1_hands 5 (some .int) 2 43 [.ref (xo X), .int a1] σ (some (.int r)) σ' := MetZ.ofAt (by decide) (Nat.le_of_ble_eq_true rfl) (fun G _ Γ Ξ hR hret => wkX1_hands Γ Ξ hR h hret)

set_option maxHeartbeats 4000000 in
set_option maxRecDepth 100000 in
theorem wkX1_swapsAt {G : Gx} {X : Xw} {σ σ' : St} (Γ : Ok G RX1 cX1_swapsAt 10) (Ξ : OkX 1 G X) (hRm : Rm G 2 51) {a1 : Int32} {a2 : Int32} {a3 : Int32} {a4 : Int32} {a5 : Int32} {a6 : Int32} {r : Int32} (h : m_swapsAt σ a1 a2 a3 a4 a5 a6 = some (r, σ')) (hret : ∀ (pc : Nat) (lv : List (Nat × Value)), retIs cX1_swapsAt (some .boolean) (some (.int r)) pc → At G 10 σ' lv [.int r] pc) : At G 10 σ [(0, .ref (xo X)), (1, .int a1), (2, .int a2), (3, .int a3), (4, .int a4), (5, .int a5), (6, .int a6)] [] 0 := by
  rw [m_swapsAt] at h
  refine A_aload_n Γ dX1_swapsAt_0 0 rfl ?_
  refine A_aload_n Γ dX1_swapsAt_1 0 rfl ?_
  refine g1_29 Γ Ξ dX1_swapsAt_2 ?_
  refine A_iload_n Γ dX1_swapsAt_5 1 rfl ?_
  replace h := b1 h
  obtain ⟨v1, e2, h⟩ := h
  refine r1_29 Γ Ξ e2 dX1_swapsAt_6 ?_
  refine A_aload_n Γ dX1_swapsAt_7 0 rfl ?_
  refine g1_5 Γ Ξ dX1_swapsAt_8 ?_
  refine A_iload Γ dX1_swapsAt_11 5 rfl ?_
  replace h := b2 h
  obtain ⟨v4, σ5, e3, h⟩ := h
  refine kX1_X1comesTo Γ Ξ hRm (by decide) (by decide) e3 (Nat.le_of_ble_eq_true rfl) dX1_swapsAt_13 ?_
  refine A_istore (lv' := [(7, .int v4), (0, .ref (xo X)), (1, .int a1), (2, .int a2), (3, .int a3), (4, .int a4), (5, .int a5), (6, .int a6)]) Γ dX1_swapsAt_16 (by decide) rfl ?_
  refine A_aload_n Γ dX1_swapsAt_18 1 rfl ?_
  refine A_aload_n Γ dX1_swapsAt_19 1 rfl ?_
  refine g1_29 Γ Ξ dX1_swapsAt_20 ?_
  refine A_iload_n Γ dX1_swapsAt_23 3 rfl ?_
  replace h := b1 h
  obtain ⟨v6, e7, h⟩ := h
  refine r1_29 Γ Ξ e7 dX1_swapsAt_24 ?_
  refine A_aload_n Γ dX1_swapsAt_25 1 rfl ?_
  refine g1_5 Γ Ξ dX1_swapsAt_26 ?_
  refine A_iload Γ dX1_swapsAt_29 6 rfl ?_
  replace h := b2 h
  obtain ⟨v9, σ10, e8, h⟩ := h
  refine kX1_X1comesTo Γ Ξ hRm (by decide) (by decide) e8 (Nat.le_of_ble_eq_true rfl) dX1_swapsAt_31 ?_
  refine A_istore (lv' := [(8, .int v9), (7, .int v4), (0, .ref (xo X)), (1, .int a1), (2, .int a2), (3, .int a3), (4, .int a4), (5, .int a5), (6, .int a6)]) Γ dX1_swapsAt_34 (by decide) rfl ?_
  refine A_iload Γ dX1_swapsAt_36 1 rfl ?_
  refine A_ldc (v := 100000000) Γ q1362 dX1_swapsAt_38 ?_
  refine A_icmp_eq (t := 50) Γ dX1_swapsAt_40 (by decide) (fun c => ?_) (fun c => ?_)
  · replace h := it_t c h
    refine A_iconst (v := 0) Γ dX1_swapsAt_50 (by decide) ?_
    obtain ⟨rfl, rfl⟩ := inj2 h
    exact hret _ _ ⟨dX1_swapsAt_51, by decide⟩
  · replace h := it_f c h
    refine A_iload Γ dX1_swapsAt_43 0 rfl ?_
    refine A_ldc (v := 100000000) Γ q1362 dX1_swapsAt_45 ?_
    refine A_icmp_ne (t := 52) Γ dX1_swapsAt_47 (by decide) (fun c => ?_) (fun c => ?_)
    · replace h := it_f c h
      refine A_iload Γ dX1_swapsAt_52 1 rfl ?_
      refine A_iload Γ dX1_swapsAt_54 8 rfl ?_
      refine A_iadd Γ dX1_swapsAt_56 ?_
      refine A_istore (lv' := [(7, .int (v4 + a6)), (8, .int v9), (0, .ref (xo X)), (1, .int a1), (2, .int a2), (3, .int a3), (4, .int a4), (5, .int a5), (6, .int a6)]) Γ dX1_swapsAt_57 (by decide) rfl ?_
      refine A_iload Γ dX1_swapsAt_59 0 rfl ?_
      refine A_iload Γ dX1_swapsAt_61 1 rfl ?_
      replace h := b1 h
      obtain ⟨x12, eJ11, h⟩ := h
      have hJJ11 : At G 10 σ10 [(0, .ref (xo X)), (3, .int a3), (4, .int a4), (5, .int a5)] [.int x12] 73 := by
        refine A_bipush (v := 10) Γ dX1_swapsAt_73 (by decide) ?_
        refine A_iadd Γ dX1_swapsAt_75 ?_
        refine A_istore (lv' := [(9, .int (x12 + 10)), (0, .ref (xo X)), (3, .int a3), (4, .int a4), (5, .int a5)]) Γ dX1_swapsAt_76 (by decide) rfl ?_
        refine A_aload_n Γ dX1_swapsAt_78 1 rfl ?_
        refine A_aload_n Γ dX1_swapsAt_79 1 rfl ?_
        refine A_iload Γ dX1_swapsAt_80 4 rfl ?_
        refine A_iload Γ dX1_swapsAt_82 0 rfl ?_
        refine A_iload_n Γ dX1_swapsAt_84 2 rfl ?_
        replace h := b2 h
        obtain ⟨v14, σ15, e13, h⟩ := h
        refine kX1_X1comesTo Γ Ξ hRm (by decide) (by decide) e13 (Nat.le_of_ble_eq_true rfl) dX1_swapsAt_85 ?_
        refine p1_52 Γ Ξ dX1_swapsAt_88 ?_
        refine A_aload_n Γ dX1_swapsAt_91 1 rfl ?_
        refine A_aload_n Γ dX1_swapsAt_92 1 rfl ?_
        refine A_iload Γ dX1_swapsAt_93 4 rfl ?_
        refine A_iload Γ dX1_swapsAt_95 0 rfl ?_
        refine A_iload Γ dX1_swapsAt_97 3 rfl ?_
        replace h := b2 h
        obtain ⟨v17, σ18, e16, h⟩ := h
        refine kX1_X1comesTo Γ Ξ hRm (by decide) (by decide) e16 (Nat.le_of_ble_eq_true rfl) dX1_swapsAt_99 ?_
        refine p1_53 Γ Ξ dX1_swapsAt_102 ?_
        refine A_aload_n Γ dX1_swapsAt_105 1 rfl ?_
        refine A_aload_n Γ dX1_swapsAt_106 1 rfl ?_
        refine g1_52 Γ Ξ dX1_swapsAt_107 ?_
        refine A_aload_n Γ dX1_swapsAt_110 1 rfl ?_
        refine g1_53 Γ Ξ dX1_swapsAt_111 ?_
        replace h := b1 h
        obtain ⟨x20, eJ19, h⟩ := h
        have hJJ19 : At G 10 (sI σ18 53 v17) [(0, .ref (xo X))] [.int x20, .ref (xo X)] 128 := by
          refine p1_50 Γ Ξ dX1_swapsAt_128 ?_
          refine A_aload_n Γ dX1_swapsAt_131 0 rfl ?_
          refine A_aload_n Γ dX1_swapsAt_132 0 rfl ?_
          refine g1_52 Γ Ξ dX1_swapsAt_133 ?_
          refine A_aload_n Γ dX1_swapsAt_136 0 rfl ?_
          refine g1_53 Γ Ξ dX1_swapsAt_137 ?_
          refine A_iadd Γ dX1_swapsAt_140 ?_
          refine p1_51 Γ Ξ dX1_swapsAt_141 ?_
          refine A_aload_n Γ dX1_swapsAt_144 0 rfl ?_
          refine g1_50 Γ Ξ dX1_swapsAt_145 ?_
          refine A_ldc (v := 100000000) Γ q1362 dX1_swapsAt_148 ?_
          replace h := b1 h
          obtain ⟨x22, eJ21, h⟩ := h
          have hJJ21 : At G 10 (sI (sI (sI σ18 53 v17) 50 x20) 51 ((cI (sI (sI σ18 53 v17) 50 x20) 52) + (cI (sI (sI σ18 53 v17) 50 x20) 53))) [] [.int x22] 158 := by
            replace h := b1 h
            obtain ⟨v24, e23, h⟩ := h
            obtain ⟨rfl, hze23⟩ := bZ_in e23
            obtain ⟨rfl, rfl⟩ := inj2 h
            exact hret _ _ ⟨dX1_swapsAt_158, hze23⟩
          refine A_icmp_ge (t := 157) Γ dX1_swapsAt_150 (by decide) (fun c => ?_) (fun c => ?_)
          · replace eJ21 := it_t c eJ21
            refine A_iconst (v := 0) Γ dX1_swapsAt_157 (by decide) ?_
            obtain rfl := inj1 eJ21
            exact A_sub [] rfl hJJ21
          · replace eJ21 := it_f c eJ21
            refine A_iconst (v := 1) Γ dX1_swapsAt_153 (by decide) ?_
            refine A_goto (t := 158) Γ dX1_swapsAt_154 (by decide) ?_
            obtain rfl := inj1 eJ21
            exact A_sub [] rfl hJJ21
        refine A_icmp_le (t := 124) Γ dX1_swapsAt_114 (by decide) (fun c => ?_) (fun c => ?_)
        · replace eJ19 := it_t c eJ19
          refine A_aload_n Γ dX1_swapsAt_124 1 rfl ?_
          refine g1_53 Γ Ξ dX1_swapsAt_125 ?_
          obtain rfl := inj1 eJ19
          exact A_sub [1] rfl hJJ19
        · replace eJ19 := it_f c eJ19
          refine A_aload_n Γ dX1_swapsAt_117 1 rfl ?_
          refine g1_52 Γ Ξ dX1_swapsAt_118 ?_
          refine A_goto (t := 128) Γ dX1_swapsAt_121 (by decide) ?_
          obtain rfl := inj1 eJ19
          exact A_sub [1] rfl hJJ19
      refine A_icmp_le (t := 71) Γ dX1_swapsAt_63 (by decide) (fun c => ?_) (fun c => ?_)
      · replace eJ11 := it_t c eJ11
        refine A_iload Γ dX1_swapsAt_71 1 rfl ?_
        obtain rfl := inj1 eJ11
        exact A_sub [2, 5, 6, 7] rfl hJJ11
      · replace eJ11 := it_f c eJ11
        refine A_iload Γ dX1_swapsAt_66 0 rfl ?_
        refine A_goto (t := 73) Γ dX1_swapsAt_68 (by decide) ?_
        obtain rfl := inj1 eJ11
        exact A_sub [2, 5, 6, 7] rfl hJJ11
    · replace h := it_t c h
      refine A_iconst (v := 0) Γ dX1_swapsAt_50 (by decide) ?_
      obtain ⟨rfl, rfl⟩ := inj2 h
      exact hret _ _ ⟨dX1_swapsAt_51, by decide⟩
theorem mtX1_swapsAt (l : Launch) (X : Xw) {σ σ' : St} {a1 : Int32} {a2 : Int32} {a3 : Int32} {a4 : Int32} {a5 : Int32} {a6 : Int32} {r : Int32} (h : m_swapsAt σ a1 a2 a3 a4 a5 a6 = some (r, σ')) : MetZ 1 l X yX1_swapsAt cX1_swapsAt 10 (some .boolean) 2 51 [.ref (xo X), .int a1, .int a2, .int a3, .int a4, .int a5, .int a6] σ (some (.int r)) σ' := MetZ.ofAt (by decide) (Nat.le_of_ble_eq_true rfl) (fun G _ Γ Ξ hR hret => wkX1_swapsAt Γ Ξ hR h hret)
theorem kX1_X1swapsAt {G : Gx} {X : Xw} {cc : ByteArray} {nL pc F LO : Nat} {σ σ' : St} {lv : List (Nat × Value)} {st : List Value} (Γ : Ok G RX1 cc nL) (Ξ : OkX 1 G X) {a1 : Int32} {a2 : Int32} {a3 : Int32} {a4 : Int32} {a5 : Int32} {a6 : Int32} {r : Int32} (hRm : Rm G F LO) (hf : 2 + 1 ≤ F) (hlo : 8 + (10 + 11) + 51 ≤ LO) (h : m_swapsAt σ a1 a2 a3 a4 a5 a6 = some (r, σ')) (hW : (st.map fun v => v.category).sum ≤ 8) (d : decode cc pc = .ok (.invokevirtual 329, 3)) (kk : At G nL σ' lv (.int r :: st) (pc + 3)) : At G nL σ lv (.int a6 :: .int a5 :: .int a4 :: .int a3 :: .int a2 :: .int a1 :: .ref (xo X) :: st) pc := A_callV Γ Ξ rfl rfl (mtX1_swapsAt (gl G) X h) (lw_V q1585 q1587 qs54 q64 q1588) (n := 6) (by decide +kernel) (rm_ok hRm hf hlo) (rm_k hRm) rfl rfl hW d kk
set_option maxHeartbeats 4000000 in
set_option maxRecDepth 100000 in
theorem wkX1_maySwap {G : Gx} {X : Xw} {σ : St} (Γ : Ok G RX1 cX1_maySwap 2) (Ξ : OkX 1 G X) (hRm : Rm G 1 21) {a1 : Int32} {r : Int32} (h : m_maySwap σ a1 = some r) (hret : ∀ (pc : Nat) (lv : List (Nat × Value)), retIs cX1_maySwap (some .boolean) (some (.int r)) pc → At G 2 σ lv [.int r] pc) : At G 2 σ [(0, .ref (xo X)), (1, .int a1)] [] 0 := by
  rw [m_maySwap] at h
  refine A_aload_n Γ dX1_maySwap_0 0 rfl ?_
  refine A_iload_n Γ dX1_maySwap_1 1 rfl ?_
  replace h := b1 h
  obtain ⟨v2, e1, h⟩ := h
  refine kX1_X1isOnWay Γ Ξ hRm (by decide) (by decide) e1 (Nat.le_of_ble_eq_true rfl) dX1_maySwap_2 ?_
  replace h := b1 h
  obtain ⟨x4, eJ3, h⟩ := h
  have hJJ3 : At G 2 σ [] [.int x4] 22 := by
    replace h := b1 h
    obtain ⟨v8, e7, h⟩ := h
    obtain ⟨rfl, hze7⟩ := bZ_in e7
    obtain rfl := inj1 h
    exact hret _ _ ⟨dX1_maySwap_22, hze7⟩
  refine A_if_ne (t := 21) Γ dX1_maySwap_5 (by decide) (fun c => ?_) (fun c => ?_)
  · replace eJ3 := it_f c eJ3
    refine A_iconst (v := 0) Γ dX1_maySwap_21 (by decide) ?_
    obtain rfl := inj1 eJ3
    exact A_sub [] rfl hJJ3
  · replace eJ3 := it_t c eJ3
    refine A_aload_n Γ dX1_maySwap_8 0 rfl ?_
    refine g1_31 Γ Ξ dX1_maySwap_9 ?_
    refine A_iload_n Γ dX1_maySwap_12 1 rfl ?_
    replace eJ3 := b1 eJ3
    obtain ⟨v5, e6, eJ3⟩ := eJ3
    refine r1_31 Γ Ξ e6 dX1_maySwap_13 ?_
    refine A_if_lt (t := 21) Γ dX1_maySwap_14 (by decide) (fun c => ?_) (fun c => ?_)
    · replace eJ3 := it_t c eJ3
      refine A_iconst (v := 0) Γ dX1_maySwap_21 (by decide) ?_
      obtain rfl := inj1 eJ3
      exact A_sub [] rfl hJJ3
    · replace eJ3 := it_f c eJ3
      refine A_iconst (v := 1) Γ dX1_maySwap_17 (by decide) ?_
      refine A_goto (t := 22) Γ dX1_maySwap_18 (by decide) ?_
      obtain rfl := inj1 eJ3
      exact A_sub [] rfl hJJ3
theorem mtX1_maySwap (l : Launch) (X : Xw) {σ : St} {a1 : Int32} {r : Int32} (h : m_maySwap σ a1 = some r) : MetZ 1 l X yX1_maySwap cX1_maySwap 2 (some .boolean) 1 21 [.ref (xo X), .int a1] σ (some (.int r)) σ := MetZ.ofAt (by decide) (Nat.le_of_ble_eq_true rfl) (fun G _ Γ Ξ hR hret => wkX1_maySwap Γ Ξ hR h hret)
theorem kX1_X1maySwap {G : Gx} {X : Xw} {cc : ByteArray} {nL pc F LO : Nat} {σ : St} {lv : List (Nat × Value)} {st : List Value} (Γ : Ok G RX1 cc nL) (Ξ : OkX 1 G X) {a1 : Int32} {r : Int32} (hRm : Rm G F LO) (hf : 1 + 1 ≤ F) (hlo : 8 + (2 + 11) + 21 ≤ LO) (h : m_maySwap σ a1 = some r) (hW : (st.map fun v => v.category).sum ≤ 8) (d : decode cc pc = .ok (.invokevirtual 336, 3)) (kk : At G nL σ lv (.int r :: st) (pc + 3)) : At G nL σ lv (.int a1 :: .ref (xo X) :: st) pc := A_callV Γ Ξ rfl rfl (mtX1_maySwap (gl G) X h) (lw_V q1577 q1579 qs52 q64 q1580) (n := 1) (by decide +kernel) (rm_ok hRm hf hlo) (rm_k hRm) rfl rfl hW d kk
set_option maxHeartbeats 4000000 in
set_option maxRecDepth 100000 in
theorem wkX1_bestSwap {G : Gx} {X : Xw} {σ σ' : St} (Γ : Ok G RX1 cX1_bestSwap 8) (Ξ : OkX 1 G X) (hRm : Rm G 3 80) {a1 : Int32} {a2 : Int32} {a3 : Int32} {a4 : Int32} {r : Int32} (h : m_bestSwap σ a1 a2 a3 a4 = some (r, σ')) (hret : ∀ (pc : Nat) (lv : List (Nat × Value)), retIs cX1_bestSwap (some .int) (some (.int r)) pc → At G 8 σ' lv [.int r] pc) : At G 8 σ [(0, .ref (xo X)), (1, .int a1), (2, .int a2), (3, .int a3), (4, .int a4)] [] 0 := by
  rw [m_bestSwap] at h
  refine A_bipush (v := (-9)) Γ dX1_bestSwap_0 (by decide) ?_
  refine A_istore (lv' := [(5, .int (-9)), (0, .ref (xo X)), (1, .int a1), (2, .int a2), (3, .int a3), (4, .int a4)]) Γ dX1_bestSwap_2 (by decide) rfl ?_
  refine A_iconst (v := 0) Γ dX1_bestSwap_4 (by decide) ?_
  refine A_istore (lv' := [(6, .int 0), (5, .int (-9)), (0, .ref (xo X)), (1, .int a1), (2, .int a2), (3, .int a3), (4, .int a4)]) Γ dX1_bestSwap_5 (by decide) rfl ?_
  refine A_iconst (v := 0) Γ dX1_bestSwap_7 (by decide) ?_
  refine A_istore (lv' := [(7, .int 0), (6, .int 0), (5, .int (-9)), (0, .ref (xo X)), (1, .int a1), (2, .int a2), (3, .int a3), (4, .int a4)]) Γ dX1_bestSwap_8 (by decide) rfl ?_
  replace h := b2 h
  obtain ⟨σ6, x7, eLL1, h⟩ := h
  have hXL1 : At G 8 σ6 [(5, .int x7)] [] 92 := by
    refine A_iload Γ dX1_bestSwap_92 0 rfl ?_
    obtain ⟨rfl, rfl⟩ := inj2 h
    exact hret _ _ dX1_bestSwap_94
  replace eLL1 := lq4_ex eLL1
  obtain ⟨nL1, eLL1⟩ := eLL1
  have hLL1 : ∀ (nL1 : Nat) (σ2 : St) (x3 : Int32) (x4 : Int32) (x5 : Int32), lpf4 (m_bestSwap_L1 a1 a2 a3 a4) nL1 σ2 x3 x4 x5 = some (σ6, x7) → At G 8 σ2 [(0, .ref (xo X)), (1, .int a1), (2, .int a2), (3, .int a3), (4, .int a4), (5, .int x3), (6, .int x4), (7, .int x5)] [] 10 := by
    intro nL1
    induction nL1 with
    | zero => intro σ2 x3 x4 x5 eL1; exact (lpf4_0 eL1).elim
    | succ nL1 ihL1 =>
      intro σ2 x3 x4 x5 eL1
      replace eL1 := lpf4_s eL1
      obtain ⟨qL1, eL1, hqL1⟩ := eL1
      rw [m_bestSwap_L1] at eL1
      refine A_iload Γ dX1_bestSwap_10 7 rfl ?_
      refine A_bipush (v := 8) Γ dX1_bestSwap_12 (by decide) ?_
      refine A_icmp_ge (t := 92) Γ dX1_bestSwap_14 (by decide) (fun c => ?_) (fun c => ?_)
      · replace eL1 := it_t c eL1
        obtain ⟨rfl, rfl⟩ := pr2 (lpx4 eL1 hqL1)
        exact A_sub [5] rfl hXL1
      · replace eL1 := it_f c eL1
        refine A_aload_n Γ dX1_bestSwap_17 0 rfl ?_
        refine A_iload_n Γ dX1_bestSwap_18 1 rfl ?_
        refine A_iload_n Γ dX1_bestSwap_19 2 rfl ?_
        refine A_iload_n Γ dX1_bestSwap_20 3 rfl ?_
        refine A_iload Γ dX1_bestSwap_21 4 rfl ?_
        refine A_iload Γ dX1_bestSwap_23 7 rfl ?_
        refine A_iconst (v := 0) Γ dX1_bestSwap_25 (by decide) ?_
        replace eL1 := b2 eL1
        obtain ⟨v9, σ10, e8, eL1⟩ := eL1
        refine kX1_X1swapsAt Γ Ξ hRm (by decide) (by decide) e8 (Nat.le_of_ble_eq_true rfl) dX1_bestSwap_26 ?_
        replace eL1 := b3 eL1
        obtain ⟨σ12, x13, x14, eJ11, eL1⟩ := eL1
        have hJJ11 : At G 8 σ12 [(0, .ref (xo X)), (1, .int a1), (2, .int a2), (3, .int a3), (4, .int a4), (5, .int x13), (6, .int x14), (7, .int x5)] [] 86 := by
          refine A_iinc (v := x5 + 1) (lv' := [(7, .int (x5 + 1)), (0, .ref (xo X)), (1, .int a1), (2, .int a2), (3, .int a3), (4, .int a4), (5, .int x13), (6, .int x14)]) Γ dX1_bestSwap_86 7 rfl rfl (by decide) rfl ?_
          refine A_goto (t := 10) Γ dX1_bestSwap_89 (by decide) ?_
          exact A_sub [1, 2, 3, 4, 5, 6, 7, 0] rfl (ihL1 _ _ _ _ (lpc4 eL1 hqL1))
        refine A_if_eq (t := 86) Γ dX1_bestSwap_29 (by decide) (fun c => ?_) (fun c => ?_)
        · replace eJ11 := it_t c eJ11
          obtain ⟨rfl, rfl, rfl⟩ := inj3 eJ11
          exact A_sub [0, 1, 2, 3, 4, 5, 6, 7] rfl hJJ11
        · replace eJ11 := it_f c eJ11
          refine A_iload Γ dX1_bestSwap_32 5 rfl ?_
          have hKK15 : m_bestSwap_K15 x5 σ10  = some (σ12, x13, x14) → At G 8 σ10 [(0, .ref (xo X)), (1, .int a1), (2, .int a2), (3, .int a3), (4, .int a4), (7, .int x5)] [] 68 := by
            clear eJ11
            intro  eJ11
            rw [m_bestSwap_K15] at eJ11
            refine A_iload Γ dX1_bestSwap_68 5 rfl ?_
            refine A_istore (lv' := [(5, .int x5), (0, .ref (xo X)), (1, .int a1), (2, .int a2), (3, .int a3), (4, .int a4), (7, .int x5)]) Γ dX1_bestSwap_70 (by decide) rfl ?_
            refine A_aload_n Γ dX1_bestSwap_72 1 rfl ?_
            refine A_aload_n Γ dX1_bestSwap_73 1 rfl ?_
            refine g1_50 Γ Ξ dX1_bestSwap_74 ?_
            refine p1_54 Γ Ξ dX1_bestSwap_77 ?_
            refine A_aload_n Γ dX1_bestSwap_80 1 rfl ?_
            refine g1_51 Γ Ξ dX1_bestSwap_81 ?_
            refine A_istore (lv' := [(6, .int (cI (sI σ10 54 (cI σ10 50)) 51)), (5, .int x5), (0, .ref (xo X)), (1, .int a1), (2, .int a2), (3, .int a3), (4, .int a4), (7, .int x5)]) Γ dX1_bestSwap_84 (by decide) rfl ?_
            obtain ⟨rfl, rfl, rfl⟩ := inj3 eJ11
            exact A_sub [2, 3, 4, 5, 6, 1, 0, 7] rfl hJJ11
          refine A_if_lt (t := 68) Γ dX1_bestSwap_34 (by decide) (fun c => ?_) (fun c => ?_)
          · replace eJ11 := it_t c eJ11
            exact A_sub [0, 1, 2, 3, 4, 7] rfl (hKK15  eJ11)
          · replace eJ11 := it_f c eJ11
            refine A_aload_n Γ dX1_bestSwap_37 0 rfl ?_
            refine g1_50 Γ Ξ dX1_bestSwap_38 ?_
            refine A_aload_n Γ dX1_bestSwap_41 0 rfl ?_
            refine g1_54 Γ Ξ dX1_bestSwap_42 ?_
            refine A_icmp_lt (t := 68) Γ dX1_bestSwap_45 (by decide) (fun c => ?_) (fun c => ?_)
            · replace eJ11 := it_t c eJ11
              exact A_sub [0, 1, 2, 3, 4, 7] rfl (hKK15  eJ11)
            · replace eJ11 := it_f c eJ11
              refine A_aload_n Γ dX1_bestSwap_48 0 rfl ?_
              refine g1_50 Γ Ξ dX1_bestSwap_49 ?_
              refine A_aload_n Γ dX1_bestSwap_52 0 rfl ?_
              refine g1_54 Γ Ξ dX1_bestSwap_53 ?_
              refine A_icmp_ne (t := 86) Γ dX1_bestSwap_56 (by decide) (fun c => ?_) (fun c => ?_)
              · replace eJ11 := it_f c eJ11
                obtain ⟨rfl, rfl, rfl⟩ := inj3 eJ11
                exact A_sub [0, 1, 2, 3, 4, 5, 6, 7] rfl hJJ11
              · replace eJ11 := it_t c eJ11
                refine A_aload_n Γ dX1_bestSwap_59 0 rfl ?_
                refine g1_51 Γ Ξ dX1_bestSwap_60 ?_
                refine A_iload Γ dX1_bestSwap_63 6 rfl ?_
                refine A_icmp_ge (t := 86) Γ dX1_bestSwap_65 (by decide) (fun c => ?_) (fun c => ?_)
                · replace eJ11 := it_t c eJ11
                  obtain ⟨rfl, rfl, rfl⟩ := inj3 eJ11
                  exact A_sub [0, 1, 2, 3, 4, 5, 6, 7] rfl hJJ11
                · replace eJ11 := it_f c eJ11
                  exact A_sub [0, 1, 2, 3, 4, 7] rfl (hKK15  eJ11)
  exact A_sub [3, 4, 5, 6, 7, 2, 1, 0] rfl (hLL1 _ _ _ _ _ eLL1)
theorem mtX1_bestSwap (l : Launch) (X : Xw) {σ σ' : St} {a1 : Int32} {a2 : Int32} {a3 : Int32} {a4 : Int32} {r : Int32} (h : m_bestSwap σ a1 a2 a3 a4 = some (r, σ')) : MetZ 1 l X yX1_bestSwap cX1_bestSwap 8 (some .int) 3 80 [.ref (xo X), .int a1, .int a2, .int a3, .int a4] σ (some (.int r)) σ' := MetZ.ofAt (by decide) (Nat.le_of_ble_eq_true rfl) (fun G _ Γ Ξ hR hret => wkX1_bestSwap Γ Ξ hR h hret)
theorem kX1_X1bestSwap {G : Gx} {X : Xw} {cc : ByteArray} {nL pc F LO : Nat} {σ σ' : St} {lv : List (Nat × Value)} {st : List Value} (Γ : Ok G RX1 cc nL) (Ξ : OkX 1 G X) {a1 : Int32} {a2 : Int32} {a3 : Int32} {a4 : Int32} {r : Int32} (hRm : Rm G F LO) (hf : 3 + 1 ≤ F) (hlo : 8 + (8 + 11) + 80 ≤ LO) (h : m_bestSwap σ a1 a2 a3 a4 = some (r, σ')) (hW : (st.map fun v => v.category).sum ≤ 8) (d : decode cc pc = .ok (.invokevirtual 339, 3)) (kk : At G nL σ' lv (.int r :: st) (pc + 3)) : At G nL σ lv (.int a4 :: .int a3 :: .int a2 :: .int a1 :: .ref (xo X) :: st) pc := A_callV Γ Ξ rfl rfl (mtX1_bestSwap (gl G) X h) (lw_V q1581 q1583 qs53 q64 q1584) (n := 4) (by decide +kernel) (rm_ok hRm hf hlo) (rm_k hRm) rfl rfl hW d kk
set_option maxHeartbeats 4000000 in
set_option maxRecDepth 100000 in
theorem wkX1_swap {G : Gx} {X : Xw} {σ σ' : St} (Γ : Ok G RX1 cX1_swap 6) (Ξ : OkX 1 G X) (hRm : Rm G 4 107) {a1 : Int32} {a2 : Int32} {a3 : Int32} {a4 : Int32} {r : Int32} (h : m_swap σ a1 a2 a3 a4 = some (r, σ')) (hret : ∀ (pc : Nat) (lv : List (Nat × Value)), retIs cX1_swap (some .int) (some (.int r)) pc → At G 6 σ' lv [.int r] pc) : At G 6 σ [(0, .ref (xo X)), (1, .int a1), (2, .int a2), (3, .int a3), (4, .int a4)] [] 0 := by
  rw [m_swap] at h
  refine A_iload_n Γ dX1_swap_0 1 rfl ?_
  replace h := b1 h
  obtain ⟨v2, e1, h⟩ := h
  refine kX1_X1isTractor Γ (kpX Ξ) hRm (by decide) (by decide) e1 (Nat.le_of_ble_eq_true rfl) dX1_swap_1 ?_
  refine A_if_eq (t := 34) Γ dX1_swap_4 (by decide) (fun c => ?_) (fun c => ?_)
  · replace h := it_t c h
    refine A_iconst (v := (-1)) Γ dX1_swap_34 (by decide) ?_
    obtain ⟨rfl, rfl⟩ := inj2 h
    exact hret _ _ dX1_swap_35
  · replace h := it_f c h
    refine A_iload_n Γ dX1_swap_7 2 rfl ?_
    replace h := b1 h
    obtain ⟨v4, e3, h⟩ := h
    refine kX1_X1isTractor Γ (kpX Ξ) hRm (by decide) (by decide) e3 (Nat.le_of_ble_eq_true rfl) dX1_swap_8 ?_
    refine A_if_eq (t := 34) Γ dX1_swap_11 (by decide) (fun c => ?_) (fun c => ?_)
    · replace h := it_t c h
      refine A_iconst (v := (-1)) Γ dX1_swap_34 (by decide) ?_
      obtain ⟨rfl, rfl⟩ := inj2 h
      exact hret _ _ dX1_swap_35
    · replace h := it_f c h
      refine A_iload_n Γ dX1_swap_14 1 rfl ?_
      refine A_iload_n Γ dX1_swap_15 2 rfl ?_
      refine A_icmp_eq (t := 34) Γ dX1_swap_16 (by decide) (fun c => ?_) (fun c => ?_)
      · replace h := it_t c h
        refine A_iconst (v := (-1)) Γ dX1_swap_34 (by decide) ?_
        obtain ⟨rfl, rfl⟩ := inj2 h
        exact hret _ _ dX1_swap_35
      · replace h := it_f c h
        refine A_iload_n Γ dX1_swap_19 3 rfl ?_
        replace h := b1 h
        obtain ⟨v6, e5, h⟩ := h
        refine kX1_X1isYard Γ (kpX Ξ) hRm (by decide) (by decide) e5 (Nat.le_of_ble_eq_true rfl) dX1_swap_20 ?_
        refine A_if_eq (t := 34) Γ dX1_swap_23 (by decide) (fun c => ?_) (fun c => ?_)
        · replace h := it_t c h
          refine A_iconst (v := (-1)) Γ dX1_swap_34 (by decide) ?_
          obtain ⟨rfl, rfl⟩ := inj2 h
          exact hret _ _ dX1_swap_35
        · replace h := it_f c h
          refine A_iload Γ dX1_swap_26 4 rfl ?_
          replace h := b1 h
          obtain ⟨v8, e7, h⟩ := h
          refine kX1_X1isYard Γ (kpX Ξ) hRm (by decide) (by decide) e7 (Nat.le_of_ble_eq_true rfl) dX1_swap_28 ?_
          refine A_if_ne (t := 36) Γ dX1_swap_31 (by decide) (fun c => ?_) (fun c => ?_)
          · replace h := it_f c h
            refine A_aload_n Γ dX1_swap_36 0 rfl ?_
            refine A_iload_n Γ dX1_swap_37 1 rfl ?_
            replace h := b1 h
            obtain ⟨v10, e9, h⟩ := h
            refine kX1_X1maySwap Γ Ξ hRm (by decide) (by decide) e9 (Nat.le_of_ble_eq_true rfl) dX1_swap_38 ?_
            refine A_if_eq (t := 52) Γ dX1_swap_41 (by decide) (fun c => ?_) (fun c => ?_)
            · replace h := it_t c h
              refine A_bipush (v := (-4)) Γ dX1_swap_52 (by decide) ?_
              obtain ⟨rfl, rfl⟩ := inj2 h
              exact hret _ _ dX1_swap_54
            · replace h := it_f c h
              refine A_aload_n Γ dX1_swap_44 0 rfl ?_
              refine A_iload_n Γ dX1_swap_45 2 rfl ?_
              replace h := b1 h
              obtain ⟨v12, e11, h⟩ := h
              refine kX1_X1maySwap Γ Ξ hRm (by decide) (by decide) e11 (Nat.le_of_ble_eq_true rfl) dX1_swap_46 ?_
              refine A_if_ne (t := 55) Γ dX1_swap_49 (by decide) (fun c => ?_) (fun c => ?_)
              · replace h := it_f c h
                refine A_aload_n Γ dX1_swap_55 0 rfl ?_
                refine A_iload_n Γ dX1_swap_56 1 rfl ?_
                refine A_iload_n Γ dX1_swap_57 2 rfl ?_
                refine A_iload_n Γ dX1_swap_58 3 rfl ?_
                refine A_iload Γ dX1_swap_59 4 rfl ?_
                replace h := b2 h
                obtain ⟨v14, σ15, e13, h⟩ := h
                refine kX1_X1bestSwap Γ Ξ hRm (by decide) (by decide) e13 (Nat.le_of_ble_eq_true rfl) dX1_swap_61 ?_
                refine A_istore (lv' := [(5, .int v14), (0, .ref (xo X)), (1, .int a1), (2, .int a2), (3, .int a3), (4, .int a4)]) Γ dX1_swap_64 (by decide) rfl ?_
                refine A_iload Γ dX1_swap_66 0 rfl ?_
                replace h := b2 h
                obtain ⟨σ17, x18, eJ16, h⟩ := h
                have hJJ16 : At G 6 σ17 [] [.int x18] 89 := by
                  obtain ⟨rfl, rfl⟩ := inj2 h
                  exact hret _ _ dX1_swap_89
                refine A_if_ge (t := 79) Γ dX1_swap_68 (by decide) (fun c => ?_) (fun c => ?_)
                · replace eJ16 := it_t c eJ16
                  refine A_aload_n Γ dX1_swap_79 1 rfl ?_
                  refine A_aload_n Γ dX1_swap_80 1 rfl ?_
                  refine g1_54 Γ Ξ dX1_swap_81 ?_
                  refine A_iload Γ dX1_swap_84 0 rfl ?_
                  replace eJ16 := b2 eJ16
                  obtain ⟨v20, σ21, e19, eJ16⟩ := eJ16
                  refine kX1_X1ask Γ Ξ hRm (by decide) (by decide) e19 (Nat.le_of_ble_eq_true rfl) dX1_swap_86 ?_
                  obtain ⟨rfl, rfl⟩ := inj2 eJ16
                  exact A_sub [] rfl hJJ16
                · replace eJ16 := it_f c eJ16
                  refine A_aload_n Γ dX1_swap_71 1 rfl ?_
                  refine A_iconst (v := 1) Γ dX1_swap_72 (by decide) ?_
                  replace eJ16 := b2 eJ16
                  obtain ⟨v23, σ24, e22, eJ16⟩ := eJ16
                  refine kX1_X1meets Γ Ξ hRm (by decide) (by decide) e22 (Nat.le_of_ble_eq_true rfl) dX1_swap_73 ?_
                  refine A_goto (t := 89) Γ dX1_swap_76 (by decide) ?_
                  obtain ⟨rfl, rfl⟩ := inj2 eJ16
                  exact A_sub [] rfl hJJ16
              · replace h := it_t c h
                refine A_bipush (v := (-4)) Γ dX1_swap_52 (by decide) ?_
                obtain ⟨rfl, rfl⟩ := inj2 h
                exact hret _ _ dX1_swap_54
          · replace h := it_t c h
            refine A_iconst (v := (-1)) Γ dX1_swap_34 (by decide) ?_
            obtain ⟨rfl, rfl⟩ := inj2 h
            exact hret _ _ dX1_swap_35
theorem mtX1_swap (l : Launch) (X : Xw) {σ σ' : St} {a1 : Int32} {a2 : Int32} {a3 : Int32} {a4 : Int32} {r : Int32} (h : m_swap σ a1 a2 a3 a4 = some (r, σ')) : MetZ 1 l X yX1_swap cX1_swap 6 (some .int) 4 107 [.ref (xo X), .int a1, .int a2, .int a3, .int a4] σ (some (.int r)) σ' := MetZ.ofAt (by decide) (Nat.le_of_ble_eq_true rfl) (fun G _ Γ Ξ hR hret => wkX1_swap Γ Ξ hR h hret)

set_option maxHeartbeats 4000000 in
set_option maxRecDepth 100000 in
theorem wkX1_pairEnd {G : Gx} {X : Xw} {σ σ' : St} (Γ : Ok G RX1 cX1_pairEnd 5) (Ξ : OkX 1 G X) (hRm : Rm G 4 107) {a1 : Int32} {a2 : Int32} {a3 : Int32} {r : Int32} (h : m_pairEnd σ a1 a2 a3 = some (r, σ')) (hret : ∀ (pc : Nat) (lv : List (Nat × Value)), retIs cX1_pairEnd (some .int) (some (.int r)) pc → At G 5 σ' lv [.int r] pc) : At G 5 σ [(0, .ref (xo X)), (1, .int a1), (2, .int a2), (3, .int a3)] [] 0 := by
  rw [m_pairEnd] at h
  refine A_aload_n Γ dX1_pairEnd_0 0 rfl ?_
  refine A_iload_n Γ dX1_pairEnd_1 2 rfl ?_
  refine A_iload_n Γ dX1_pairEnd_2 3 rfl ?_
  refine A_aload_n Γ dX1_pairEnd_3 0 rfl ?_
  refine g1_7 Γ Ξ dX1_pairEnd_4 ?_
  refine A_bipush (v := 40) Γ dX1_pairEnd_7 (by decide) ?_
  refine A_iload_n Γ dX1_pairEnd_9 1 rfl ?_
  refine A_imul Γ dX1_pairEnd_10 ?_
  refine A_iload_n Γ dX1_pairEnd_11 2 rfl ?_
  refine A_iadd Γ dX1_pairEnd_12 ?_
  replace h := b1 h
  obtain ⟨v1, e2, h⟩ := h
  refine r1_7 Γ Ξ e2 dX1_pairEnd_13 ?_
  refine A_aload_n Γ dX1_pairEnd_14 0 rfl ?_
  refine g1_7 Γ Ξ dX1_pairEnd_15 ?_
  refine A_bipush (v := 40) Γ dX1_pairEnd_18 (by decide) ?_
  refine A_iload_n Γ dX1_pairEnd_20 1 rfl ?_
  refine A_imul Γ dX1_pairEnd_21 ?_
  refine A_iload_n Γ dX1_pairEnd_22 3 rfl ?_
  refine A_iadd Γ dX1_pairEnd_23 ?_
  replace h := b1 h
  obtain ⟨v3, e4, h⟩ := h
  refine r1_7 Γ Ξ e4 dX1_pairEnd_24 ?_
  replace h := b2 h
  obtain ⟨v6, σ7, e5, h⟩ := h
  refine kX1_X1bestSwap Γ Ξ hRm (by decide) (by decide) e5 (Nat.le_of_ble_eq_true rfl) dX1_pairEnd_25 ?_
  refine A_istore (lv' := [(4, .int v6), (0, .ref (xo X)), (1, .int a1), (2, .int a2), (3, .int a3)]) Γ dX1_pairEnd_28 (by decide) rfl ?_
  refine A_iload Γ dX1_pairEnd_30 0 rfl ?_
  replace h := b1 h
  obtain ⟨x9, eJ8, h⟩ := h
  have hJJ8 : At G 5 σ7 [] [.int x9] 44 := by
    obtain ⟨rfl, rfl⟩ := inj2 h
    exact hret _ _ dX1_pairEnd_44
  refine A_if_ge (t := 40) Γ dX1_pairEnd_32 (by decide) (fun c => ?_) (fun c => ?_)
  · replace eJ8 := it_t c eJ8
    refine A_aload_n Γ dX1_pairEnd_40 1 rfl ?_
    refine g1_54 Γ Ξ dX1_pairEnd_41 ?_
    obtain rfl := inj1 eJ8
    exact A_sub [] rfl hJJ8
  · replace eJ8 := it_f c eJ8
    refine A_ldc (v := 100000000) Γ q1362 dX1_pairEnd_35 ?_
    refine A_goto (t := 44) Γ dX1_pairEnd_37 (by decide) ?_
    obtain rfl := inj1 eJ8
    exact A_sub [] rfl hJJ8
theorem mtX1_pairEnd (l : Launch) (X : Xw) {σ σ' : St} {a1 : Int32} {a2 : Int32} {a3 : Int32} {r : Int32} (h : m_pairEnd σ a1 a2 a3 = some (r, σ')) : MetZ 1 l X yX1_pairEnd cX1_pairEnd 5 (some .int) 4 107 [.ref (xo X), .int a1, .int a2, .int a3] σ (some (.int r)) σ' := MetZ.ofAt (by decide) (Nat.le_of_ble_eq_true rfl) (fun G _ Γ Ξ hR hret => wkX1_pairEnd Γ Ξ hR h hret)
theorem kX1_X1pairEnd {G : Gx} {X : Xw} {cc : ByteArray} {nL pc F LO : Nat} {σ σ' : St} {lv : List (Nat × Value)} {st : List Value} (Γ : Ok G RX1 cc nL) (Ξ : OkX 1 G X) {a1 : Int32} {a2 : Int32} {a3 : Int32} {r : Int32} (hRm : Rm G F LO) (hf : 4 + 1 ≤ F) (hlo : 8 + (5 + 11) + 107 ≤ LO) (h : m_pairEnd σ a1 a2 a3 = some (r, σ')) (hW : (st.map fun v => v.category).sum ≤ 8) (d : decode cc pc = .ok (.invokevirtual 345, 3)) (kk : At G nL σ' lv (.int r :: st) (pc + 3)) : At G nL σ lv (.int a3 :: .int a2 :: .int a1 :: .ref (xo X) :: st) pc := A_callV Γ Ξ rfl rfl (mtX1_pairEnd (gl G) X h) (lw_V q1597 q1599 qs56 q64 q1600) (n := 3) (by decide +kernel) (rm_ok hRm hf hlo) (rm_k hRm) rfl rfl hW d kk
set_option maxHeartbeats 4000000 in
set_option maxRecDepth 100000 in
theorem wkX1_partWays {G : Gx} {X : Xw} {σ σ' : St} (Γ : Ok G RX1 cX1_partWays 10) (Ξ : OkX 1 G X) (hRm : Rm G 5 131) {a1 : Int32} {a2 : Int32} {a3 : Int32} {r : Int32} (h : m_partWays σ a1 a2 a3 = some (r, σ')) (hret : ∀ (pc : Nat) (lv : List (Nat × Value)), retIs cX1_partWays (some .int) (some (.int r)) pc → At G 10 σ' lv [.int r] pc) : At G 10 σ [(0, .ref (xo X)), (1, .int a1), (2, .int a2), (3, .int a3)] [] 0 := by
  rw [m_partWays] at h
  refine A_iload_n Γ dX1_partWays_0 1 rfl ?_
  refine A_istore (lv' := [(4, .int a1), (0, .ref (xo X)), (1, .int a1), (2, .int a2), (3, .int a3)]) Γ dX1_partWays_1 (by decide) rfl ?_
  refine A_iconst (v := 0) Γ dX1_partWays_3 (by decide) ?_
  refine A_istore (lv' := [(5, .int 0), (4, .int a1), (0, .ref (xo X)), (1, .int a1), (2, .int a2), (3, .int a3)]) Γ dX1_partWays_4 (by decide) rfl ?_
  refine A_iconst (v := 0) Γ dX1_partWays_6 (by decide) ?_
  refine A_istore (lv' := [(6, .int 0), (5, .int 0), (4, .int a1), (0, .ref (xo X)), (1, .int a1), (2, .int a2), (3, .int a3)]) Γ dX1_partWays_7 (by decide) rfl ?_
  replace h := b1 h
  obtain ⟨σ4, eLL1, h⟩ := h
  have hXL1 : At G 10 σ4 [(0, .ref (xo X)), (2, .int a2), (3, .int a3), (4, .int a1), (5, .int 0)] [] 31 := by
    refine A_iconst (v := 0) Γ dX1_partWays_31 (by decide) ?_
    refine A_istore (lv' := [(6, .int 0), (0, .ref (xo X)), (2, .int a2), (3, .int a3), (4, .int a1), (5, .int 0)]) Γ dX1_partWays_32 (by decide) rfl ?_
    replace h := bR2 h
    obtain ⟨qqL7, eLL7, hsL7⟩ := h
    have hXL7 : ∀ (σ12 : St) (x13 : Int32), qqL7 = .inl (σ12, x13) → At G 10 σ12 [(5, .int x13)] [] 193 := by
      intro σ12 x13 e0
      rcases hsL7 with ⟨σ12z, x13z, e1, h⟩ | ⟨r1, e1, _⟩
      · cases e0.symm.trans e1
        refine A_iload Γ dX1_partWays_193 0 rfl ?_
        obtain ⟨rfl, rfl⟩ := inj2 h
        exact hret _ _ dX1_partWays_195
      · cases e0.symm.trans e1
    have hRtL7 : ∀ w : Int32 × St, qqL7 = .inr w → some w = some (r, σ') := by
      intro w e0
      rcases hsL7 with ⟨σ12z, x13z, e1, _⟩ | ⟨r1, e1, h9⟩
      · cases e0.symm.trans e1
      · cases e0.symm.trans e1; exact h9
    replace eLL7 := lq4_ex eLL7
    obtain ⟨nL7, eLL7⟩ := eLL7
    have hLL7 : ∀ (nL7 : Nat) (σ8 : St) (x9 : Int32) (x10 : Int32) (x11 : Int32), lpf4 (m_partWays_L7 a2 a3) nL7 σ8 x9 x10 x11 = some qqL7 → At G 10 σ8 [(0, .ref (xo X)), (2, .int a2), (3, .int a3), (4, .int x9), (5, .int x10), (6, .int x11)] [] 34 := by
      intro nL7
      induction nL7 with
      | zero => intro σ8 x9 x10 x11 eL7; exact (lpf4_0 eL7).elim
      | succ nL7 ihL7 =>
        intro σ8 x9 x10 x11 eL7
        replace eL7 := lpf4_s eL7
        obtain ⟨qL7, eL7, hqL7⟩ := eL7
        rw [m_partWays_L7] at eL7
        refine A_iload Γ dX1_partWays_34 5 rfl ?_
        refine A_iconst (v := 3) Γ dX1_partWays_36 (by decide) ?_
        refine A_icmp_ge (t := 193) Γ dX1_partWays_37 (by decide) (fun c => ?_) (fun c => ?_)
        · replace eL7 := it_t c eL7
          exact A_sub [4] rfl (hXL7 _ _ (lpx4 eL7 hqL7).symm)
        · replace eL7 := it_f c eL7
          refine A_iload Γ dX1_partWays_40 5 rfl ?_
          replace eL7 := b1 eL7
          obtain ⟨x15, eJ14, eL7⟩ := eL7
          have hJJ14 : At G 10 σ8 [(0, .ref (xo X)), (2, .int a2), (3, .int a3), (4, .int x9), (5, .int x10), (6, .int x11)] [.int x15] 72 := by
            refine A_istore (lv' := [(7, .int x15), (0, .ref (xo X)), (2, .int a2), (3, .int a3), (4, .int x9), (5, .int x10), (6, .int x11)]) Γ dX1_partWays_72 (by decide) rfl ?_
            refine A_iload Γ dX1_partWays_74 4 rfl ?_
            refine A_if_ne (t := 87) Γ dX1_partWays_76 (by decide) (fun c => ?_) (fun c => ?_)
            · replace eL7 := it_f c eL7
              refine A_iconst (v := 0) Γ dX1_partWays_87 (by decide) ?_
              refine A_istore (lv' := [(8, .int 0), (7, .int x15), (0, .ref (xo X)), (2, .int a2), (3, .int a3), (4, .int x9), (5, .int x10), (6, .int x11)]) Γ dX1_partWays_88 (by decide) rfl ?_
              replace eL7 := b1 eL7
              obtain ⟨x18, eLL16, eL7⟩ := eL7
              have hXL16 : At G 10 σ8 [(0, .ref (xo X)), (2, .int a2), (3, .int a3), (4, .int x9), (5, .int x10), (6, .int x11), (7, .int x15), (8, .int x18)] [] 106 := by
                refine A_iload Γ dX1_partWays_106 6 rfl ?_
                refine A_iload Γ dX1_partWays_108 7 rfl ?_
                refine A_icmp_eq (t := 123) Γ dX1_partWays_110 (by decide) (fun c => ?_) (fun c => ?_)
                · replace eL7 := it_t c eL7
                  refine A_ldc (v := 100000000) Γ q1362 dX1_partWays_123 ?_
                  have rL7 := hRtL7 _ (lpx4 eL7 hqL7).symm
                  obtain ⟨rfl, rfl⟩ := inj2 rL7
                  exact hret _ _ dX1_partWays_125
                · replace eL7 := it_f c eL7
                  refine A_iload Γ dX1_partWays_113 3 rfl ?_
                  refine A_iload Γ dX1_partWays_115 6 rfl ?_
                  refine A_ishr Γ dX1_partWays_117 ?_
                  refine A_iconst (v := 1) Γ dX1_partWays_118 (by decide) ?_
                  refine A_iand Γ dX1_partWays_119 ?_
                  refine A_if_ne (t := 126) Γ dX1_partWays_120 (by decide) (fun c => ?_) (fun c => ?_)
                  · replace eL7 := it_f c eL7
                    refine A_iload Γ dX1_partWays_126 3 rfl ?_
                    refine A_iconst (v := 1) Γ dX1_partWays_128 (by decide) ?_
                    refine A_iload Γ dX1_partWays_129 7 rfl ?_
                    refine A_ishl Γ dX1_partWays_131 ?_
                    refine A_iconst (v := 1) Γ dX1_partWays_132 (by decide) ?_
                    refine A_iload Γ dX1_partWays_133 6 rfl ?_
                    refine A_ishl Γ dX1_partWays_135 ?_
                    refine A_ior Γ dX1_partWays_136 ?_
                    refine A_iconst (v := (-1)) Γ dX1_partWays_137 (by decide) ?_
                    refine A_ixor Γ dX1_partWays_138 ?_
                    refine A_iand Γ dX1_partWays_139 ?_
                    refine A_istore (lv' := [(4, .int (x9 &&& (((1 <<< (x18 &&& 31)) ||| (1 <<< (x15 &&& 31))) ^^^ (-1)))), (0, .ref (xo X)), (2, .int a2), (3, .int a3), (5, .int x10), (6, .int x11), (7, .int x15), (8, .int x18)]) Γ dX1_partWays_140 (by decide) rfl ?_
                    refine A_aload_n Γ dX1_partWays_142 1 rfl ?_
                    refine g1_56 Γ Ξ dX1_partWays_143 ?_
                    refine A_iload Γ dX1_partWays_146 7 rfl ?_
                    refine A_iload Γ dX1_partWays_148 6 rfl ?_
                    replace eL7 := b1 eL7
                    obtain ⟨σ19, e20, eL7⟩ := eL7
                    refine w1_56 Γ Ξ e20 dX1_partWays_150 ?_
                    refine A_aload_n Γ dX1_partWays_151 1 rfl ?_
                    refine g1_56 Γ Ξ dX1_partWays_152 ?_
                    refine A_iload Γ dX1_partWays_155 6 rfl ?_
                    refine A_iload Γ dX1_partWays_157 7 rfl ?_
                    replace eL7 := b1 eL7
                    obtain ⟨σ21, e22, eL7⟩ := eL7
                    refine w1_56 Γ Ξ e22 dX1_partWays_159 ?_
                    refine A_aload_n Γ dX1_partWays_160 1 rfl ?_
                    refine A_iload_n Γ dX1_partWays_161 2 rfl ?_
                    refine A_iload Γ dX1_partWays_162 7 rfl ?_
                    refine A_iload Γ dX1_partWays_164 6 rfl ?_
                    replace eL7 := b2 eL7
                    obtain ⟨v24, σ25, e23, eL7⟩ := eL7
                    refine kX1_X1pairEnd Γ Ξ hRm (by decide) (by decide) e23 (Nat.le_of_ble_eq_true rfl) dX1_partWays_166 ?_
                    refine A_istore (lv' := [(9, .int v24), (4, .int (x9 &&& (((1 <<< (x18 &&& 31)) ||| (1 <<< (x15 &&& 31))) ^^^ (-1)))), (0, .ref (xo X)), (2, .int a2), (3, .int a3), (5, .int x10), (6, .int x11), (7, .int x15), (8, .int x18)]) Γ dX1_partWays_169 (by decide) rfl ?_
                    refine A_iload Γ dX1_partWays_171 0 rfl ?_
                    refine A_iload Γ dX1_partWays_173 5 rfl ?_
                    replace eL7 := b1 eL7
                    obtain ⟨x27, eJ26, eL7⟩ := eL7
                    have hJJ26 : At G 10 σ25 [(0, .ref (xo X)), (2, .int a2), (3, .int a3), (4, .int (x9 &&& (((1 <<< (x18 &&& 31)) ||| (1 <<< (x15 &&& 31))) ^^^ (-1)))), (6, .int x11)] [.int x27] 185 := by
                      refine A_istore (lv' := [(5, .int x27), (0, .ref (xo X)), (2, .int a2), (3, .int a3), (4, .int (x9 &&& (((1 <<< (x18 &&& 31)) ||| (1 <<< (x15 &&& 31))) ^^^ (-1)))), (6, .int x11)]) Γ dX1_partWays_185 (by decide) rfl ?_
                      refine A_iinc (v := x11 + 1) (lv' := [(6, .int (x11 + 1)), (5, .int x27), (0, .ref (xo X)), (2, .int a2), (3, .int a3), (4, .int (x9 &&& (((1 <<< (x18 &&& 31)) ||| (1 <<< (x15 &&& 31))) ^^^ (-1))))]) Γ dX1_partWays_187 5 rfl rfl (by decide) rfl ?_
                      refine A_goto (t := 34) Γ dX1_partWays_190 (by decide) ?_
                      exact A_sub [2, 3, 4, 5, 1, 0] rfl (ihL7 _ _ _ _ (lpc4 eL7 hqL7))
                    refine A_icmp_le (t := 183) Γ dX1_partWays_175 (by decide) (fun c => ?_) (fun c => ?_)
                    · replace eJ26 := it_t c eJ26
                      refine A_iload Γ dX1_partWays_183 5 rfl ?_
                      obtain rfl := inj1 eJ26
                      exact A_sub [2, 3, 4, 1, 6] rfl hJJ26
                    · replace eJ26 := it_f c eJ26
                      refine A_iload Γ dX1_partWays_178 0 rfl ?_
                      refine A_goto (t := 185) Γ dX1_partWays_180 (by decide) ?_
                      obtain rfl := inj1 eJ26
                      exact A_sub [2, 3, 4, 1, 6] rfl hJJ26
                  · replace eL7 := it_t c eL7
                    refine A_ldc (v := 100000000) Γ q1362 dX1_partWays_123 ?_
                    have rL7 := hRtL7 _ (lpx4 eL7 hqL7).symm
                    obtain ⟨rfl, rfl⟩ := inj2 rL7
                    exact hret _ _ dX1_partWays_125
              replace eLL16 := lq1_ex eLL16
              obtain ⟨nL16, eLL16⟩ := eLL16
              have hLL16 : ∀ (nL16 : Nat) (x17 : Int32), lpf1 (m_partWays_L16 x9) nL16 x17 = some x18 → At G 10 σ8 [(0, .ref (xo X)), (2, .int a2), (3, .int a3), (4, .int x9), (5, .int x10), (6, .int x11), (7, .int x15), (8, .int x17)] [] 90 := by
                intro nL16
                induction nL16 with
                | zero => intro x17 eL16; exact (lpf1_0 eL16).elim
                | succ nL16 ihL16 =>
                  intro x17 eL16
                  replace eL16 := lpf1_s eL16
                  obtain ⟨qL16, eL16, hqL16⟩ := eL16
                  rw [m_partWays_L16] at eL16
                  refine A_iload Γ dX1_partWays_90 3 rfl ?_
                  refine A_iload Γ dX1_partWays_92 7 rfl ?_
                  refine A_ishr Γ dX1_partWays_94 ?_
                  refine A_iconst (v := 1) Γ dX1_partWays_95 (by decide) ?_
                  refine A_iand Γ dX1_partWays_96 ?_
                  refine A_if_ne (t := 106) Γ dX1_partWays_97 (by decide) (fun c => ?_) (fun c => ?_)
                  · replace eL16 := it_f c eL16
                    obtain rfl := pr1 (lpx1 eL16 hqL16)
                    exact A_sub [0, 1, 2, 3, 4, 5, 6, 7] rfl hXL16
                  · replace eL16 := it_t c eL16
                    refine A_iinc (v := x17 + 1) (lv' := [(8, .int (x17 + 1)), (0, .ref (xo X)), (2, .int a2), (3, .int a3), (4, .int x9), (5, .int x10), (6, .int x11), (7, .int x15)]) Γ dX1_partWays_100 7 rfl rfl (by decide) rfl ?_
                    refine A_goto (t := 90) Γ dX1_partWays_103 (by decide) ?_
                    exact A_sub [1, 2, 3, 4, 5, 6, 7, 0] rfl (ihL16 _ (lpc1 eL16 hqL16))
              exact A_sub [2, 3, 4, 5, 6, 7, 1, 0] rfl (hLL16 _ _ eLL16)
            · replace eL7 := it_t c eL7
              refine A_iload Γ dX1_partWays_79 0 rfl ?_
              refine A_if_le (t := 187) Γ dX1_partWays_81 (by decide) (fun c => ?_) (fun c => ?_)
              · replace eL7 := it_t c eL7
                refine A_iinc (v := x11 + 1) (lv' := [(6, .int (x11 + 1)), (7, .int x15), (0, .ref (xo X)), (2, .int a2), (3, .int a3), (4, .int x9), (5, .int x10)]) Γ dX1_partWays_187 6 rfl rfl (by decide) rfl ?_
                refine A_goto (t := 34) Γ dX1_partWays_190 (by decide) ?_
                exact A_sub [2, 3, 4, 5, 6, 0] rfl (ihL7 _ _ _ _ (lpc4 eL7 hqL7))
              · replace eL7 := it_f c eL7
                refine A_ldc (v := 100000000) Γ q1362 dX1_partWays_84 ?_
                have rL7 := hRtL7 _ (lpx4 eL7 hqL7).symm
                obtain ⟨rfl, rfl⟩ := inj2 rL7
                exact hret _ _ dX1_partWays_86
          refine A_if_ne (t := 52) Γ dX1_partWays_42 (by decide) (fun c => ?_) (fun c => ?_)
          · replace eJ14 := it_f c eJ14
            refine A_iload Γ dX1_partWays_52 5 rfl ?_
            refine A_iconst (v := 1) Γ dX1_partWays_54 (by decide) ?_
            refine A_icmp_ne (t := 68) Γ dX1_partWays_55 (by decide) (fun c => ?_) (fun c => ?_)
            · replace eJ14 := it_f c eJ14
              refine A_iload_n Γ dX1_partWays_68 2 rfl ?_
              refine A_bipush (v := 6) Γ dX1_partWays_69 (by decide) ?_
              refine A_irem Γ dX1_partWays_71 (by decide) ?_
              obtain rfl := inj1 eJ14
              exact A_sub [0, 1, 2, 3, 4, 5] rfl hJJ14
            · replace eJ14 := it_t c eJ14
              refine A_iload_n Γ dX1_partWays_58 2 rfl ?_
              refine A_bipush (v := 6) Γ dX1_partWays_59 (by decide) ?_
              refine A_idiv Γ dX1_partWays_61 (by decide) ?_
              refine A_bipush (v := 6) Γ dX1_partWays_62 (by decide) ?_
              refine A_irem Γ dX1_partWays_64 (by decide) ?_
              refine A_goto (t := 72) Γ dX1_partWays_65 (by decide) ?_
              obtain rfl := inj1 eJ14
              exact A_sub [0, 1, 2, 3, 4, 5] rfl hJJ14
          · replace eJ14 := it_t c eJ14
            refine A_iload_n Γ dX1_partWays_45 2 rfl ?_
            refine A_bipush (v := 36) Γ dX1_partWays_46 (by decide) ?_
            refine A_idiv Γ dX1_partWays_48 (by decide) ?_
            refine A_goto (t := 72) Γ dX1_partWays_49 (by decide) ?_
            obtain rfl := inj1 eJ14
            exact A_sub [0, 1, 2, 3, 4, 5] rfl hJJ14
    exact A_sub [1, 2, 3, 4, 5, 0] rfl (hLL7 _ _ _ _ _ eLL7)
  replace eLL1 := lq2_ex eLL1
  obtain ⟨nL1, eLL1⟩ := eLL1
  have hLL1 : ∀ (nL1 : Nat) (σ2 : St) (x3 : Int32), lpf2 (m_partWays_L1) nL1 σ2 x3 = some σ4 → At G 10 σ2 [(0, .ref (xo X)), (2, .int a2), (3, .int a3), (4, .int a1), (5, .int 0), (6, .int x3)] [] 9 := by
    intro nL1
    induction nL1 with
    | zero => intro σ2 x3 eL1; exact (lpf2_0 eL1).elim
    | succ nL1 ihL1 =>
      intro σ2 x3 eL1
      replace eL1 := lpf2_s eL1
      obtain ⟨qL1, eL1, hqL1⟩ := eL1
      rw [m_partWays_L1] at eL1
      refine A_iload Γ dX1_partWays_9 5 rfl ?_
      refine A_bipush (v := 6) Γ dX1_partWays_11 (by decide) ?_
      refine A_icmp_ge (t := 31) Γ dX1_partWays_13 (by decide) (fun c => ?_) (fun c => ?_)
      · replace eL1 := it_t c eL1
        obtain rfl := pr1 (lpx2 eL1 hqL1)
        exact A_sub [0, 1, 2, 3, 4] rfl hXL1
      · replace eL1 := it_f c eL1
        refine A_aload_n Γ dX1_partWays_16 0 rfl ?_
        refine g1_56 Γ Ξ dX1_partWays_17 ?_
        refine A_iload Γ dX1_partWays_20 5 rfl ?_
        refine A_bipush (v := (-9)) Γ dX1_partWays_22 (by decide) ?_
        replace eL1 := b1 eL1
        obtain ⟨σ5, e6, eL1⟩ := eL1
        refine w1_56 Γ Ξ e6 dX1_partWays_24 ?_
        refine A_iinc (v := x3 + 1) (lv' := [(6, .int (x3 + 1)), (0, .ref (xo X)), (2, .int a2), (3, .int a3), (4, .int a1), (5, .int 0)]) Γ dX1_partWays_25 5 rfl rfl (by decide) rfl ?_
        refine A_goto (t := 9) Γ dX1_partWays_28 (by decide) ?_
        exact A_sub [1, 2, 3, 4, 5, 0] rfl (ihL1 _ _ (lpc2 eL1 hqL1))
  exact A_sub [3, 5, 6, 2, 1, 0] rfl (hLL1 _ _ _ eLL1)
theorem mtX1_partWays (l : Launch) (X : Xw) {σ σ' : St} {a1 : Int32} {a2 : Int32} {a3 : Int32} {r : Int32} (h : m_partWays σ a1 a2 a3 = some (r, σ')) : MetZ 1 l X yX1_partWays cX1_partWays 10 (some .int) 5 131 [.ref (xo X), .int a1, .int a2, .int a3] σ (some (.int r)) σ' := MetZ.ofAt (by decide) (Nat.le_of_ble_eq_true rfl) (fun G _ Γ Ξ hR hret => wkX1_partWays Γ Ξ hR h hret)
theorem kX1_X1partWays {G : Gx} {X : Xw} {cc : ByteArray} {nL pc F LO : Nat} {σ σ' : St} {lv : List (Nat × Value)} {st : List Value} (Γ : Ok G RX1 cc nL) (Ξ : OkX 1 G X) {a1 : Int32} {a2 : Int32} {a3 : Int32} {r : Int32} (hRm : Rm G F LO) (hf : 5 + 1 ≤ F) (hlo : 8 + (10 + 11) + 131 ≤ LO) (h : m_partWays σ a1 a2 a3 = some (r, σ')) (hW : (st.map fun v => v.category).sum ≤ 8) (d : decode cc pc = .ok (.invokevirtual 342, 3)) (kk : At G nL σ' lv (.int r :: st) (pc + 3)) : At G nL σ lv (.int a3 :: .int a2 :: .int a1 :: .ref (xo X) :: st) pc := A_callV Γ Ξ rfl rfl (mtX1_partWays (gl G) X h) (lw_V q1593 q1595 qs55 q64 q1596) (n := 3) (by decide +kernel) (rm_ok hRm hf hlo) (rm_k hRm) rfl rfl hW d kk
set_option maxHeartbeats 4000000 in
set_option maxRecDepth 100000 in
theorem wkX1_pairs {G : Gx} {X : Xw} {σ σ' : St} (Γ : Ok G RX1 cX1_pairs 10) (Ξ : OkX 1 G X) (hRm : Rm G 6 160) {a1 : Int32} {a2 : Int32} {r : Int32} (h : m_pairs σ a1 a2 = some (r, σ')) (hret : ∀ (pc : Nat) (lv : List (Nat × Value)), retIs cX1_pairs (some .int) (some (.int r)) pc → At G 10 σ' lv [.int r] pc) : At G 10 σ [(0, .ref (xo X)), (1, .int a1), (2, .int a2)] [] 0 := by
  rw [m_pairs] at h
  refine A_iload_n Γ dX1_pairs_0 1 rfl ?_
  replace h := b1 h
  obtain ⟨v2, e1, h⟩ := h
  refine kX1_X1bits Γ (kpX Ξ) hRm (by decide) (by decide) e1 (Nat.le_of_ble_eq_true rfl) dX1_pairs_1 ?_
  refine A_istore_n (lv' := [(3, .int v2), (0, .ref (xo X)), (1, .int a1), (2, .int a2)]) Γ dX1_pairs_4 (by decide) rfl ?_
  refine A_iload_n Γ dX1_pairs_5 2 rfl ?_
  refine A_iconst (v := 0) Γ dX1_pairs_6 (by decide) ?_
  refine A_bipush (v := 63) Γ dX1_pairs_7 (by decide) ?_
  replace h := b1 h
  obtain ⟨v4, e3, h⟩ := h
  refine kX1_X1in Γ (kpX Ξ) hRm (by decide) (by decide) e3 (Nat.le_of_ble_eq_true rfl) dX1_pairs_9 ?_
  refine A_if_eq (t := 38) Γ dX1_pairs_12 (by decide) (fun c => ?_) (fun c => ?_)
  · replace h := it_t c h
    refine A_iconst (v := (-1)) Γ dX1_pairs_38 (by decide) ?_
    obtain ⟨rfl, rfl⟩ := inj2 h
    exact hret _ _ dX1_pairs_39
  · replace h := it_f c h
    refine A_iload_n Γ dX1_pairs_15 0 rfl ?_
    refine A_iconst (v := 2) Γ dX1_pairs_16 (by decide) ?_
    refine A_icmp_eq (t := 31) Γ dX1_pairs_17 (by decide) (fun c => ?_) (fun c => ?_)
    · replace h := it_t c h
      refine A_iload_n Γ dX1_pairs_31 3 rfl ?_
      replace h := b1 h
      obtain ⟨v6, e5, h⟩ := h
      refine kX1_X1isRow Γ (kpX Ξ) hRm (by decide) (by decide) e5 (Nat.le_of_ble_eq_true rfl) dX1_pairs_32 ?_
      refine A_if_ne (t := 40) Γ dX1_pairs_35 (by decide) (fun c => ?_) (fun c => ?_)
      · replace h := it_f c h
        refine A_aload_n Γ dX1_pairs_40 1 rfl ?_
        refine g1_6 Γ Ξ dX1_pairs_41 ?_
        refine A_iload_n Γ dX1_pairs_44 3 rfl ?_
        replace h := b1 h
        obtain ⟨v7, e8, h⟩ := h
        refine r1_6 Γ Ξ e8 dX1_pairs_45 ?_
        refine A_if_ge (t := 55) Γ dX1_pairs_46 (by decide) (fun c => ?_) (fun c => ?_)
        · replace h := it_t c h
          refine A_aload_n Γ dX1_pairs_55 1 rfl ?_
          refine g1_6 Γ Ξ dX1_pairs_56 ?_
          refine A_iload_n Γ dX1_pairs_59 3 rfl ?_
          replace h := b1 h
          obtain ⟨v9, e10, h⟩ := h
          refine r1_6 Γ Ξ e10 dX1_pairs_60 ?_
          refine A_bipush (v := 6) Γ dX1_pairs_61 (by decide) ?_
          refine A_icmp_eq (t := 72) Γ dX1_pairs_63 (by decide) (fun c => ?_) (fun c => ?_)
          · replace h := it_t c h
            refine A_iconst (v := 1) Γ dX1_pairs_72 (by decide) ?_
            refine A_istore (lv' := [(4, .int 1), (3, .int v2), (0, .ref (xo X)), (1, .int a1), (2, .int a2)]) Γ dX1_pairs_73 (by decide) rfl ?_
            refine A_iconst (v := 1) Γ dX1_pairs_75 (by decide) ?_
            refine A_istore (lv' := [(5, .int 1), (4, .int 1), (3, .int v2), (0, .ref (xo X)), (1, .int a1), (2, .int a2)]) Γ dX1_pairs_76 (by decide) rfl ?_
            refine A_iconst (v := 0) Γ dX1_pairs_78 (by decide) ?_
            refine A_istore (lv' := [(6, .int 0), (5, .int 1), (4, .int 1), (3, .int v2), (0, .ref (xo X)), (1, .int a1), (2, .int a2)]) Γ dX1_pairs_79 (by decide) rfl ?_
            replace h := b2 h
            obtain ⟨x15, x16, eLL11, h⟩ := h
            have hXL11 : At G 10 σ [(0, .ref (xo X)), (1, .int a1), (2, .int a2), (4, .int x15), (5, .int x16)] [] 154 := by
              refine A_iload Γ dX1_pairs_154 3 rfl ?_
              refine A_if_ne (t := 165) Γ dX1_pairs_156 (by decide) (fun c => ?_) (fun c => ?_)
              · replace h := it_f c h
                refine A_iload Γ dX1_pairs_165 4 rfl ?_
                refine A_if_ne (t := 173) Γ dX1_pairs_167 (by decide) (fun c => ?_) (fun c => ?_)
                · replace h := it_f c h
                  refine A_ldc (v := 100000000) Γ q1362 dX1_pairs_173 ?_
                  refine A_istore (lv' := [(6, .int 100000000), (0, .ref (xo X)), (1, .int a1), (2, .int a2), (4, .int x15), (5, .int x16)]) Γ dX1_pairs_175 (by decide) rfl ?_
                  refine A_iconst (v := 0) Γ dX1_pairs_177 (by decide) ?_
                  refine A_istore (lv' := [(7, .int 0), (6, .int 100000000), (0, .ref (xo X)), (1, .int a1), (2, .int a2), (4, .int x15), (5, .int x16)]) Γ dX1_pairs_178 (by decide) rfl ?_
                  replace h := b2 h
                  obtain ⟨σ31, x32, eLL27, h⟩ := h
                  have hXL27 : At G 10 σ31 [(0, .ref (xo X)), (6, .int x32)] [] 245 := by
                    refine A_iload Γ dX1_pairs_245 1 rfl ?_
                    refine A_ldc (v := 100000000) Γ q1362 dX1_pairs_247 ?_
                    refine A_icmp_ne (t := 258) Γ dX1_pairs_249 (by decide) (fun c => ?_) (fun c => ?_)
                    · replace h := it_f c h
                      refine A_iconst (v := 0) Γ dX1_pairs_258 (by decide) ?_
                      refine A_istore (lv' := [(7, .int 0), (0, .ref (xo X)), (6, .int x32)]) Γ dX1_pairs_259 (by decide) rfl ?_
                      replace h := b1 h
                      obtain ⟨σ50, eLL47, h⟩ := h
                      have hXL47 : At G 10 σ50 [(6, .int x32)] [] 288 := by
                        refine A_iload Γ dX1_pairs_288 0 rfl ?_
                        obtain ⟨rfl, rfl⟩ := inj2 h
                        exact hret _ _ dX1_pairs_290
                      replace eLL47 := lq2_ex eLL47
                      obtain ⟨nL47, eLL47⟩ := eLL47
                      have hLL47 : ∀ (nL47 : Nat) (σ48 : St) (x49 : Int32), lpf2 (m_pairs_L47) nL47 σ48 x49 = some σ50 → At G 10 σ48 [(0, .ref (xo X)), (6, .int x32), (7, .int x49)] [] 261 := by
                        intro nL47
                        induction nL47 with
                        | zero => intro σ48 x49 eL47; exact (lpf2_0 eL47).elim
                        | succ nL47 ihL47 =>
                          intro σ48 x49 eL47
                          replace eL47 := lpf2_s eL47
                          obtain ⟨qL47, eL47, hqL47⟩ := eL47
                          rw [m_pairs_L47] at eL47
                          refine A_iload Γ dX1_pairs_261 2 rfl ?_
                          refine A_bipush (v := 6) Γ dX1_pairs_263 (by decide) ?_
                          refine A_icmp_ge (t := 288) Γ dX1_pairs_265 (by decide) (fun c => ?_) (fun c => ?_)
                          · replace eL47 := it_t c eL47
                            obtain rfl := pr1 (lpx2 eL47 hqL47)
                            exact A_sub [1] rfl hXL47
                          · replace eL47 := it_f c eL47
                            refine A_aload_n Γ dX1_pairs_268 0 rfl ?_
                            refine g1_55 Γ Ξ dX1_pairs_269 ?_
                            refine A_iload Γ dX1_pairs_272 2 rfl ?_
                            refine A_aload_n Γ dX1_pairs_274 0 rfl ?_
                            refine g1_57 Γ Ξ dX1_pairs_275 ?_
                            refine A_iload Γ dX1_pairs_278 2 rfl ?_
                            replace eL47 := b1 eL47
                            obtain ⟨v51, e52, eL47⟩ := eL47
                            refine r1_57 Γ Ξ e52 dX1_pairs_280 ?_
                            replace eL47 := b1 eL47
                            obtain ⟨σ53, e54, eL47⟩ := eL47
                            refine w1_55 Γ Ξ e54 dX1_pairs_281 ?_
                            refine A_iinc (v := x49 + 1) (lv' := [(7, .int (x49 + 1)), (0, .ref (xo X)), (6, .int x32)]) Γ dX1_pairs_282 2 rfl rfl (by decide) rfl ?_
                            refine A_goto (t := 261) Γ dX1_pairs_285 (by decide) ?_
                            exact A_sub [1, 2, 0] rfl (ihL47 _ _ (lpc2 eL47 hqL47))
                      exact A_sub [1, 2, 0] rfl (hLL47 _ _ _ eLL47)
                    · replace h := it_t c h
                      refine A_aload_n Γ dX1_pairs_252 0 rfl ?_
                      refine A_iconst (v := 1) Γ dX1_pairs_253 (by decide) ?_
                      replace h := b2 h
                      obtain ⟨v56, σ57, e55, h⟩ := h
                      refine kX1_X1meets Γ Ξ hRm (by decide) (by decide) e55 (Nat.le_of_ble_eq_true rfl) dX1_pairs_254 ?_
                      obtain ⟨rfl, rfl⟩ := inj2 h
                      exact hret _ _ dX1_pairs_257
                  replace eLL27 := lq3_ex eLL27
                  obtain ⟨nL27, eLL27⟩ := eLL27
                  have hLL27 : ∀ (nL27 : Nat) (σ28 : St) (x29 : Int32) (x30 : Int32), lpf3 (m_pairs_L27 a1 a2) nL27 σ28 x29 x30 = some (σ31, x32) → At G 10 σ28 [(0, .ref (xo X)), (1, .int a1), (2, .int a2), (6, .int x29), (7, .int x30)] [] 180 := by
                    intro nL27
                    induction nL27 with
                    | zero => intro σ28 x29 x30 eL27; exact (lpf3_0 eL27).elim
                    | succ nL27 ihL27 =>
                      intro σ28 x29 x30 eL27
                      replace eL27 := lpf3_s eL27
                      obtain ⟨qL27, eL27, hqL27⟩ := eL27
                      rw [m_pairs_L27] at eL27
                      refine A_iload Γ dX1_pairs_180 4 rfl ?_
                      refine A_sipush (v := 216) Γ dX1_pairs_182 (by decide) ?_
                      refine A_icmp_ge (t := 245) Γ dX1_pairs_185 (by decide) (fun c => ?_) (fun c => ?_)
                      · replace eL27 := it_t c eL27
                        obtain ⟨rfl, rfl⟩ := pr2 (lpx3 eL27 hqL27)
                        exact A_sub [0, 3] rfl hXL27
                      · replace eL27 := it_f c eL27
                        refine A_aload_n Γ dX1_pairs_188 0 rfl ?_
                        refine A_iload_n Γ dX1_pairs_189 1 rfl ?_
                        refine A_iload_n Γ dX1_pairs_190 2 rfl ?_
                        refine A_iload Γ dX1_pairs_191 4 rfl ?_
                        replace eL27 := b2 eL27
                        obtain ⟨v34, σ35, e33, eL27⟩ := eL27
                        refine kX1_X1partWays Γ Ξ hRm (by decide) (by decide) e33 (Nat.le_of_ble_eq_true rfl) dX1_pairs_193 ?_
                        refine A_istore (lv' := [(8, .int v34), (0, .ref (xo X)), (1, .int a1), (2, .int a2), (6, .int x29), (7, .int x30)]) Γ dX1_pairs_196 (by decide) rfl ?_
                        refine A_iload Γ dX1_pairs_198 0 rfl ?_
                        refine A_iload Γ dX1_pairs_200 4 rfl ?_
                        replace eL27 := b2 eL27
                        obtain ⟨σ37, x38, eJ36, eL27⟩ := eL27
                        have hJJ36 : At G 10 σ37 [(0, .ref (xo X)), (1, .int a1), (2, .int a2), (6, .int x38), (7, .int x30)] [] 239 := by
                          refine A_iinc (v := x30 + 1) (lv' := [(7, .int (x30 + 1)), (0, .ref (xo X)), (1, .int a1), (2, .int a2), (6, .int x38)]) Γ dX1_pairs_239 4 rfl rfl (by decide) rfl ?_
                          refine A_goto (t := 180) Γ dX1_pairs_242 (by decide) ?_
                          exact A_sub [1, 2, 3, 4, 0] rfl (ihL27 _ _ _ (lpc3 eL27 hqL27))
                        refine A_icmp_ge (t := 239) Γ dX1_pairs_202 (by decide) (fun c => ?_) (fun c => ?_)
                        · replace eJ36 := it_t c eJ36
                          obtain ⟨rfl, rfl⟩ := inj2 eJ36
                          exact A_sub [1, 2, 3, 4, 5] rfl hJJ36
                        · replace eJ36 := it_f c eJ36
                          refine A_iload Γ dX1_pairs_205 0 rfl ?_
                          refine A_istore (lv' := [(6, .int v34), (8, .int v34), (0, .ref (xo X)), (1, .int a1), (2, .int a2), (7, .int x30)]) Γ dX1_pairs_207 (by decide) rfl ?_
                          refine A_iconst (v := 0) Γ dX1_pairs_209 (by decide) ?_
                          refine A_istore (lv' := [(9, .int 0), (6, .int v34), (8, .int v34), (0, .ref (xo X)), (1, .int a1), (2, .int a2), (7, .int x30)]) Γ dX1_pairs_210 (by decide) rfl ?_
                          replace eJ36 := b1 eJ36
                          obtain ⟨σ42, eLL39, eJ36⟩ := eJ36
                          have hXL39 : At G 10 σ42 [(0, .ref (xo X)), (1, .int a1), (2, .int a2), (6, .int v34), (7, .int x30)] [] 239 := by
                            obtain ⟨rfl, rfl⟩ := inj2 eJ36
                            exact A_sub [0, 1, 2, 3, 4] rfl hJJ36
                          replace eLL39 := lq2_ex eLL39
                          obtain ⟨nL39, eLL39⟩ := eLL39
                          have hLL39 : ∀ (nL39 : Nat) (σ40 : St) (x41 : Int32), lpf2 (m_pairs_L39) nL39 σ40 x41 = some σ42 → At G 10 σ40 [(0, .ref (xo X)), (1, .int a1), (2, .int a2), (6, .int v34), (7, .int x30), (9, .int x41)] [] 212 := by
                            intro nL39
                            induction nL39 with
                            | zero => intro σ40 x41 eL39; exact (lpf2_0 eL39).elim
                            | succ nL39 ihL39 =>
                              intro σ40 x41 eL39
                              replace eL39 := lpf2_s eL39
                              obtain ⟨qL39, eL39, hqL39⟩ := eL39
                              rw [m_pairs_L39] at eL39
                              refine A_iload Γ dX1_pairs_212 5 rfl ?_
                              refine A_bipush (v := 6) Γ dX1_pairs_214 (by decide) ?_
                              refine A_icmp_ge (t := 239) Γ dX1_pairs_216 (by decide) (fun c => ?_) (fun c => ?_)
                              · replace eL39 := it_t c eL39
                                obtain rfl := pr1 (lpx2 eL39 hqL39)
                                exact A_sub [0, 1, 2, 3, 4] rfl hXL39
                              · replace eL39 := it_f c eL39
                                refine A_aload_n Γ dX1_pairs_219 0 rfl ?_
                                refine g1_57 Γ Ξ dX1_pairs_220 ?_
                                refine A_iload Γ dX1_pairs_223 5 rfl ?_
                                refine A_aload_n Γ dX1_pairs_225 0 rfl ?_
                                refine g1_56 Γ Ξ dX1_pairs_226 ?_
                                refine A_iload Γ dX1_pairs_229 5 rfl ?_
                                replace eL39 := b1 eL39
                                obtain ⟨v43, e44, eL39⟩ := eL39
                                refine r1_56 Γ Ξ e44 dX1_pairs_231 ?_
                                replace eL39 := b1 eL39
                                obtain ⟨σ45, e46, eL39⟩ := eL39
                                refine w1_57 Γ Ξ e46 dX1_pairs_232 ?_
                                refine A_iinc (v := x41 + 1) (lv' := [(9, .int (x41 + 1)), (0, .ref (xo X)), (1, .int a1), (2, .int a2), (6, .int v34), (7, .int x30)]) Γ dX1_pairs_233 5 rfl rfl (by decide) rfl ?_
                                refine A_goto (t := 212) Γ dX1_pairs_236 (by decide) ?_
                                exact A_sub [1, 2, 3, 4, 5, 0] rfl (ihL39 _ _ (lpc2 eL39 hqL39))
                          exact A_sub [3, 4, 5, 1, 6, 0] rfl (hLL39 _ _ _ eLL39)
                  exact A_sub [2, 3, 4, 1, 0] rfl (hLL27 _ _ _ _ eLL27)
                · replace h := it_t c h
                  refine A_bipush (v := (-4)) Γ dX1_pairs_170 (by decide) ?_
                  obtain ⟨rfl, rfl⟩ := inj2 h
                  exact hret _ _ dX1_pairs_172
              · replace h := it_t c h
                refine A_aload_n Γ dX1_pairs_159 0 rfl ?_
                refine A_iconst (v := 3) Γ dX1_pairs_160 (by decide) ?_
                replace h := b2 h
                obtain ⟨v59, σ60, e58, h⟩ := h
                refine kX1_X1meets Γ Ξ hRm (by decide) (by decide) e58 (Nat.le_of_ble_eq_true rfl) dX1_pairs_161 ?_
                obtain ⟨rfl, rfl⟩ := inj2 h
                exact hret _ _ dX1_pairs_164
            replace eLL11 := lq3_ex eLL11
            obtain ⟨nL11, eLL11⟩ := eLL11
            have hLL11 : ∀ (nL11 : Nat) (x12 : Int32) (x13 : Int32) (x14 : Int32), lpf3 (m_pairs_L11 σ a1 a2) nL11 x12 x13 x14 = some (x15, x16) → At G 10 σ [(0, .ref (xo X)), (1, .int a1), (2, .int a2), (4, .int x12), (5, .int x13), (6, .int x14)] [] 81 := by
              intro nL11
              induction nL11 with
              | zero => intro x12 x13 x14 eL11; exact (lpf3_0 eL11).elim
              | succ nL11 ihL11 =>
                intro x12 x13 x14 eL11
                replace eL11 := lpf3_s eL11
                obtain ⟨qL11, eL11, hqL11⟩ := eL11
                rw [m_pairs_L11] at eL11
                refine A_iload Γ dX1_pairs_81 5 rfl ?_
                refine A_bipush (v := 6) Γ dX1_pairs_83 (by decide) ?_
                refine A_icmp_ge (t := 154) Γ dX1_pairs_85 (by decide) (fun c => ?_) (fun c => ?_)
                · replace eL11 := it_t c eL11
                  obtain ⟨rfl, rfl⟩ := pr2 (lpx3 eL11 hqL11)
                  exact A_sub [0, 1, 2, 3, 4] rfl hXL11
                · replace eL11 := it_f c eL11
                  refine A_iload Γ dX1_pairs_88 3 rfl ?_
                  replace eL11 := b1 eL11
                  obtain ⟨x18, eJ17, eL11⟩ := eL11
                  have hJJ17 : At G 10 σ [(0, .ref (xo X)), (1, .int a1), (2, .int a2), (5, .int x13), (6, .int x14)] [.int x18] 116 := by
                    refine A_istore (lv' := [(4, .int x18), (0, .ref (xo X)), (1, .int a1), (2, .int a2), (5, .int x13), (6, .int x14)]) Γ dX1_pairs_116 (by decide) rfl ?_
                    refine A_iload Γ dX1_pairs_118 4 rfl ?_
                    replace eL11 := b1 eL11
                    obtain ⟨x24, eJ23, eL11⟩ := eL11
                    have hJJ23 : At G 10 σ [(0, .ref (xo X)), (1, .int a1), (2, .int a2), (4, .int x18), (6, .int x14)] [.int x24] 146 := by
                      refine A_istore (lv' := [(5, .int x24), (0, .ref (xo X)), (1, .int a1), (2, .int a2), (4, .int x18), (6, .int x14)]) Γ dX1_pairs_146 (by decide) rfl ?_
                      refine A_iinc (v := x14 + 1) (lv' := [(6, .int (x14 + 1)), (5, .int x24), (0, .ref (xo X)), (1, .int a1), (2, .int a2), (4, .int x18)]) Γ dX1_pairs_148 5 rfl rfl (by decide) rfl ?_
                      refine A_goto (t := 81) Γ dX1_pairs_151 (by decide) ?_
                      exact A_sub [2, 3, 4, 5, 1, 0] rfl (ihL11 _ _ _ (lpc3 eL11 hqL11))
                    refine A_if_eq (t := 145) Γ dX1_pairs_120 (by decide) (fun c => ?_) (fun c => ?_)
                    · replace eJ23 := it_t c eJ23
                      refine A_iconst (v := 0) Γ dX1_pairs_145 (by decide) ?_
                      obtain rfl := inj1 eJ23
                      exact A_sub [1, 2, 3, 0, 5] rfl hJJ23
                    · replace eJ23 := it_f c eJ23
                      refine A_iload_n Γ dX1_pairs_123 2 rfl ?_
                      refine A_iload Γ dX1_pairs_124 5 rfl ?_
                      refine A_ishr Γ dX1_pairs_126 ?_
                      refine A_iconst (v := 1) Γ dX1_pairs_127 (by decide) ?_
                      refine A_iand Γ dX1_pairs_128 ?_
                      refine A_if_eq (t := 141) Γ dX1_pairs_129 (by decide) (fun c => ?_) (fun c => ?_)
                      · replace eJ23 := it_t c eJ23
                        refine A_iconst (v := 1) Γ dX1_pairs_141 (by decide) ?_
                        refine A_goto (t := 146) Γ dX1_pairs_142 (by decide) ?_
                        obtain rfl := inj1 eJ23
                        exact A_sub [1, 2, 3, 0, 5] rfl hJJ23
                      · replace eJ23 := it_f c eJ23
                        refine A_aload_n Γ dX1_pairs_132 1 rfl ?_
                        refine A_iload Γ dX1_pairs_133 5 rfl ?_
                        replace eJ23 := b1 eJ23
                        obtain ⟨v26, e25, eJ23⟩ := eJ23
                        refine kX1_X1maySwap Γ Ξ hRm (by decide) (by decide) e25 (Nat.le_of_ble_eq_true rfl) dX1_pairs_135 ?_
                        refine A_if_eq (t := 145) Γ dX1_pairs_138 (by decide) (fun c => ?_) (fun c => ?_)
                        · replace eJ23 := it_t c eJ23
                          refine A_iconst (v := 0) Γ dX1_pairs_145 (by decide) ?_
                          obtain rfl := inj1 eJ23
                          exact A_sub [1, 2, 3, 0, 5] rfl hJJ23
                        · replace eJ23 := it_f c eJ23
                          refine A_iconst (v := 1) Γ dX1_pairs_141 (by decide) ?_
                          refine A_goto (t := 146) Γ dX1_pairs_142 (by decide) ?_
                          obtain rfl := inj1 eJ23
                          exact A_sub [1, 2, 3, 0, 5] rfl hJJ23
                  refine A_if_eq (t := 115) Γ dX1_pairs_90 (by decide) (fun c => ?_) (fun c => ?_)
                  · replace eJ17 := it_t c eJ17
                    refine A_iconst (v := 0) Γ dX1_pairs_115 (by decide) ?_
                    obtain rfl := inj1 eJ17
                    exact A_sub [0, 1, 2, 4, 5] rfl hJJ17
                  · replace eJ17 := it_f c eJ17
                    refine A_aload_n Γ dX1_pairs_93 0 rfl ?_
                    refine g1_7 Γ Ξ dX1_pairs_94 ?_
                    refine A_bipush (v := 40) Γ dX1_pairs_97 (by decide) ?_
                    refine A_iload_n Γ dX1_pairs_99 2 rfl ?_
                    refine A_imul Γ dX1_pairs_100 ?_
                    refine A_iload Γ dX1_pairs_101 5 rfl ?_
                    refine A_iadd Γ dX1_pairs_103 ?_
                    replace eJ17 := b1 eJ17
                    obtain ⟨v19, e20, eJ17⟩ := eJ17
                    refine r1_7 Γ Ξ e20 dX1_pairs_104 ?_
                    replace eJ17 := b1 eJ17
                    obtain ⟨v22, e21, eJ17⟩ := eJ17
                    refine kX1_X1isYard Γ (kpX Ξ) hRm (by decide) (by decide) e21 (Nat.le_of_ble_eq_true rfl) dX1_pairs_105 ?_
                    refine A_if_eq (t := 115) Γ dX1_pairs_108 (by decide) (fun c => ?_) (fun c => ?_)
                    · replace eJ17 := it_t c eJ17
                      refine A_iconst (v := 0) Γ dX1_pairs_115 (by decide) ?_
                      obtain rfl := inj1 eJ17
                      exact A_sub [0, 1, 2, 4, 5] rfl hJJ17
                    · replace eJ17 := it_f c eJ17
                      refine A_iconst (v := 1) Γ dX1_pairs_111 (by decide) ?_
                      refine A_goto (t := 116) Γ dX1_pairs_112 (by decide) ?_
                      obtain rfl := inj1 eJ17
                      exact A_sub [0, 1, 2, 4, 5] rfl hJJ17
            exact A_sub [4, 5, 6, 2, 1, 0] rfl (hLL11 _ _ _ _ eLL11)
          · replace h := it_f c h
            refine A_aload_n Γ dX1_pairs_66 1 rfl ?_
            refine A_iconst (v := 5) Γ dX1_pairs_67 (by decide) ?_
            replace h := b2 h
            obtain ⟨v62, σ63, e61, h⟩ := h
            refine kX1_X1meets Γ Ξ hRm (by decide) (by decide) e61 (Nat.le_of_ble_eq_true rfl) dX1_pairs_68 ?_
            obtain ⟨rfl, rfl⟩ := inj2 h
            exact hret _ _ dX1_pairs_71
        · replace h := it_f c h
          refine A_aload_n Γ dX1_pairs_49 1 rfl ?_
          refine A_iconst (v := 1) Γ dX1_pairs_50 (by decide) ?_
          replace h := b2 h
          obtain ⟨v65, σ66, e64, h⟩ := h
          refine kX1_X1meets Γ Ξ hRm (by decide) (by decide) e64 (Nat.le_of_ble_eq_true rfl) dX1_pairs_51 ?_
          obtain ⟨rfl, rfl⟩ := inj2 h
          exact hret _ _ dX1_pairs_54
      · replace h := it_t c h
        refine A_iconst (v := (-1)) Γ dX1_pairs_38 (by decide) ?_
        obtain ⟨rfl, rfl⟩ := inj2 h
        exact hret _ _ dX1_pairs_39
    · replace h := it_f c h
      refine A_iload_n Γ dX1_pairs_20 0 rfl ?_
      refine A_iconst (v := 4) Γ dX1_pairs_21 (by decide) ?_
      refine A_icmp_eq (t := 31) Γ dX1_pairs_22 (by decide) (fun c => ?_) (fun c => ?_)
      · replace h := it_t c h
        refine A_iload_n Γ dX1_pairs_31 3 rfl ?_
        replace h := b1 h
        obtain ⟨v68, e67, h⟩ := h
        refine kX1_X1isRow Γ (kpX Ξ) hRm (by decide) (by decide) e67 (Nat.le_of_ble_eq_true rfl) dX1_pairs_32 ?_
        refine A_if_ne (t := 40) Γ dX1_pairs_35 (by decide) (fun c => ?_) (fun c => ?_)
        · replace h := it_f c h
          refine A_aload_n Γ dX1_pairs_40 1 rfl ?_
          refine g1_6 Γ Ξ dX1_pairs_41 ?_
          refine A_iload_n Γ dX1_pairs_44 3 rfl ?_
          replace h := b1 h
          obtain ⟨v69, e70, h⟩ := h
          refine r1_6 Γ Ξ e70 dX1_pairs_45 ?_
          refine A_if_ge (t := 55) Γ dX1_pairs_46 (by decide) (fun c => ?_) (fun c => ?_)
          · replace h := it_t c h
            refine A_aload_n Γ dX1_pairs_55 1 rfl ?_
            refine g1_6 Γ Ξ dX1_pairs_56 ?_
            refine A_iload_n Γ dX1_pairs_59 3 rfl ?_
            replace h := b1 h
            obtain ⟨v71, e72, h⟩ := h
            refine r1_6 Γ Ξ e72 dX1_pairs_60 ?_
            refine A_bipush (v := 6) Γ dX1_pairs_61 (by decide) ?_
            refine A_icmp_eq (t := 72) Γ dX1_pairs_63 (by decide) (fun c => ?_) (fun c => ?_)
            · replace h := it_t c h
              refine A_iconst (v := 1) Γ dX1_pairs_72 (by decide) ?_
              refine A_istore (lv' := [(4, .int 1), (3, .int v2), (0, .ref (xo X)), (1, .int a1), (2, .int a2)]) Γ dX1_pairs_73 (by decide) rfl ?_
              refine A_iconst (v := 1) Γ dX1_pairs_75 (by decide) ?_
              refine A_istore (lv' := [(5, .int 1), (4, .int 1), (3, .int v2), (0, .ref (xo X)), (1, .int a1), (2, .int a2)]) Γ dX1_pairs_76 (by decide) rfl ?_
              refine A_iconst (v := 0) Γ dX1_pairs_78 (by decide) ?_
              refine A_istore (lv' := [(6, .int 0), (5, .int 1), (4, .int 1), (3, .int v2), (0, .ref (xo X)), (1, .int a1), (2, .int a2)]) Γ dX1_pairs_79 (by decide) rfl ?_
              replace h := b2 h
              obtain ⟨x77, x78, eLL73, h⟩ := h
              have hXL73 : At G 10 σ [(0, .ref (xo X)), (1, .int a1), (2, .int a2), (4, .int x77), (5, .int x78)] [] 154 := by
                refine A_iload Γ dX1_pairs_154 3 rfl ?_
                refine A_if_ne (t := 165) Γ dX1_pairs_156 (by decide) (fun c => ?_) (fun c => ?_)
                · replace h := it_f c h
                  refine A_iload Γ dX1_pairs_165 4 rfl ?_
                  refine A_if_ne (t := 173) Γ dX1_pairs_167 (by decide) (fun c => ?_) (fun c => ?_)
                  · replace h := it_f c h
                    refine A_ldc (v := 100000000) Γ q1362 dX1_pairs_173 ?_
                    refine A_istore (lv' := [(6, .int 100000000), (0, .ref (xo X)), (1, .int a1), (2, .int a2), (4, .int x77), (5, .int x78)]) Γ dX1_pairs_175 (by decide) rfl ?_
                    refine A_iconst (v := 0) Γ dX1_pairs_177 (by decide) ?_
                    refine A_istore (lv' := [(7, .int 0), (6, .int 100000000), (0, .ref (xo X)), (1, .int a1), (2, .int a2), (4, .int x77), (5, .int x78)]) Γ dX1_pairs_178 (by decide) rfl ?_
                    replace h := b2 h
                    obtain ⟨σ93, x94, eLL89, h⟩ := h
                    have hXL89 : At G 10 σ93 [(0, .ref (xo X)), (6, .int x94)] [] 245 := by
                      refine A_iload Γ dX1_pairs_245 1 rfl ?_
                      refine A_ldc (v := 100000000) Γ q1362 dX1_pairs_247 ?_
                      refine A_icmp_ne (t := 258) Γ dX1_pairs_249 (by decide) (fun c => ?_) (fun c => ?_)
                      · replace h := it_f c h
                        refine A_iconst (v := 0) Γ dX1_pairs_258 (by decide) ?_
                        refine A_istore (lv' := [(7, .int 0), (0, .ref (xo X)), (6, .int x94)]) Γ dX1_pairs_259 (by decide) rfl ?_
                        replace h := b1 h
                        obtain ⟨σ112, eLL109, h⟩ := h
                        have hXL109 : At G 10 σ112 [(6, .int x94)] [] 288 := by
                          refine A_iload Γ dX1_pairs_288 0 rfl ?_
                          obtain ⟨rfl, rfl⟩ := inj2 h
                          exact hret _ _ dX1_pairs_290
                        replace eLL109 := lq2_ex eLL109
                        obtain ⟨nL109, eLL109⟩ := eLL109
                        have hLL109 : ∀ (nL109 : Nat) (σ110 : St) (x111 : Int32), lpf2 (m_pairs_L109) nL109 σ110 x111 = some σ112 → At G 10 σ110 [(0, .ref (xo X)), (6, .int x94), (7, .int x111)] [] 261 := by
                          intro nL109
                          induction nL109 with
                          | zero => intro σ110 x111 eL109; exact (lpf2_0 eL109).elim
                          | succ nL109 ihL109 =>
                            intro σ110 x111 eL109
                            replace eL109 := lpf2_s eL109
                            obtain ⟨qL109, eL109, hqL109⟩ := eL109
                            rw [m_pairs_L109] at eL109
                            refine A_iload Γ dX1_pairs_261 2 rfl ?_
                            refine A_bipush (v := 6) Γ dX1_pairs_263 (by decide) ?_
                            refine A_icmp_ge (t := 288) Γ dX1_pairs_265 (by decide) (fun c => ?_) (fun c => ?_)
                            · replace eL109 := it_t c eL109
                              obtain rfl := pr1 (lpx2 eL109 hqL109)
                              exact A_sub [1] rfl hXL109
                            · replace eL109 := it_f c eL109
                              refine A_aload_n Γ dX1_pairs_268 0 rfl ?_
                              refine g1_55 Γ Ξ dX1_pairs_269 ?_
                              refine A_iload Γ dX1_pairs_272 2 rfl ?_
                              refine A_aload_n Γ dX1_pairs_274 0 rfl ?_
                              refine g1_57 Γ Ξ dX1_pairs_275 ?_
                              refine A_iload Γ dX1_pairs_278 2 rfl ?_
                              replace eL109 := b1 eL109
                              obtain ⟨v113, e114, eL109⟩ := eL109
                              refine r1_57 Γ Ξ e114 dX1_pairs_280 ?_
                              replace eL109 := b1 eL109
                              obtain ⟨σ115, e116, eL109⟩ := eL109
                              refine w1_55 Γ Ξ e116 dX1_pairs_281 ?_
                              refine A_iinc (v := x111 + 1) (lv' := [(7, .int (x111 + 1)), (0, .ref (xo X)), (6, .int x94)]) Γ dX1_pairs_282 2 rfl rfl (by decide) rfl ?_
                              refine A_goto (t := 261) Γ dX1_pairs_285 (by decide) ?_
                              exact A_sub [1, 2, 0] rfl (ihL109 _ _ (lpc2 eL109 hqL109))
                        exact A_sub [1, 2, 0] rfl (hLL109 _ _ _ eLL109)
                      · replace h := it_t c h
                        refine A_aload_n Γ dX1_pairs_252 0 rfl ?_
                        refine A_iconst (v := 1) Γ dX1_pairs_253 (by decide) ?_
                        replace h := b2 h
                        obtain ⟨v118, σ119, e117, h⟩ := h
                        refine kX1_X1meets Γ Ξ hRm (by decide) (by decide) e117 (Nat.le_of_ble_eq_true rfl) dX1_pairs_254 ?_
                        obtain ⟨rfl, rfl⟩ := inj2 h
                        exact hret _ _ dX1_pairs_257
                    replace eLL89 := lq3_ex eLL89
                    obtain ⟨nL89, eLL89⟩ := eLL89
                    have hLL89 : ∀ (nL89 : Nat) (σ90 : St) (x91 : Int32) (x92 : Int32), lpf3 (m_pairs_L89 a1 a2) nL89 σ90 x91 x92 = some (σ93, x94) → At G 10 σ90 [(0, .ref (xo X)), (1, .int a1), (2, .int a2), (6, .int x91), (7, .int x92)] [] 180 := by
                      intro nL89
                      induction nL89 with
                      | zero => intro σ90 x91 x92 eL89; exact (lpf3_0 eL89).elim
                      | succ nL89 ihL89 =>
                        intro σ90 x91 x92 eL89
                        replace eL89 := lpf3_s eL89
                        obtain ⟨qL89, eL89, hqL89⟩ := eL89
                        rw [m_pairs_L89] at eL89
                        refine A_iload Γ dX1_pairs_180 4 rfl ?_
                        refine A_sipush (v := 216) Γ dX1_pairs_182 (by decide) ?_
                        refine A_icmp_ge (t := 245) Γ dX1_pairs_185 (by decide) (fun c => ?_) (fun c => ?_)
                        · replace eL89 := it_t c eL89
                          obtain ⟨rfl, rfl⟩ := pr2 (lpx3 eL89 hqL89)
                          exact A_sub [0, 3] rfl hXL89
                        · replace eL89 := it_f c eL89
                          refine A_aload_n Γ dX1_pairs_188 0 rfl ?_
                          refine A_iload_n Γ dX1_pairs_189 1 rfl ?_
                          refine A_iload_n Γ dX1_pairs_190 2 rfl ?_
                          refine A_iload Γ dX1_pairs_191 4 rfl ?_
                          replace eL89 := b2 eL89
                          obtain ⟨v96, σ97, e95, eL89⟩ := eL89
                          refine kX1_X1partWays Γ Ξ hRm (by decide) (by decide) e95 (Nat.le_of_ble_eq_true rfl) dX1_pairs_193 ?_
                          refine A_istore (lv' := [(8, .int v96), (0, .ref (xo X)), (1, .int a1), (2, .int a2), (6, .int x91), (7, .int x92)]) Γ dX1_pairs_196 (by decide) rfl ?_
                          refine A_iload Γ dX1_pairs_198 0 rfl ?_
                          refine A_iload Γ dX1_pairs_200 4 rfl ?_
                          replace eL89 := b2 eL89
                          obtain ⟨σ99, x100, eJ98, eL89⟩ := eL89
                          have hJJ98 : At G 10 σ99 [(0, .ref (xo X)), (1, .int a1), (2, .int a2), (6, .int x100), (7, .int x92)] [] 239 := by
                            refine A_iinc (v := x92 + 1) (lv' := [(7, .int (x92 + 1)), (0, .ref (xo X)), (1, .int a1), (2, .int a2), (6, .int x100)]) Γ dX1_pairs_239 4 rfl rfl (by decide) rfl ?_
                            refine A_goto (t := 180) Γ dX1_pairs_242 (by decide) ?_
                            exact A_sub [1, 2, 3, 4, 0] rfl (ihL89 _ _ _ (lpc3 eL89 hqL89))
                          refine A_icmp_ge (t := 239) Γ dX1_pairs_202 (by decide) (fun c => ?_) (fun c => ?_)
                          · replace eJ98 := it_t c eJ98
                            obtain ⟨rfl, rfl⟩ := inj2 eJ98
                            exact A_sub [1, 2, 3, 4, 5] rfl hJJ98
                          · replace eJ98 := it_f c eJ98
                            refine A_iload Γ dX1_pairs_205 0 rfl ?_
                            refine A_istore (lv' := [(6, .int v96), (8, .int v96), (0, .ref (xo X)), (1, .int a1), (2, .int a2), (7, .int x92)]) Γ dX1_pairs_207 (by decide) rfl ?_
                            refine A_iconst (v := 0) Γ dX1_pairs_209 (by decide) ?_
                            refine A_istore (lv' := [(9, .int 0), (6, .int v96), (8, .int v96), (0, .ref (xo X)), (1, .int a1), (2, .int a2), (7, .int x92)]) Γ dX1_pairs_210 (by decide) rfl ?_
                            replace eJ98 := b1 eJ98
                            obtain ⟨σ104, eLL101, eJ98⟩ := eJ98
                            have hXL101 : At G 10 σ104 [(0, .ref (xo X)), (1, .int a1), (2, .int a2), (6, .int v96), (7, .int x92)] [] 239 := by
                              obtain ⟨rfl, rfl⟩ := inj2 eJ98
                              exact A_sub [0, 1, 2, 3, 4] rfl hJJ98
                            replace eLL101 := lq2_ex eLL101
                            obtain ⟨nL101, eLL101⟩ := eLL101
                            have hLL101 : ∀ (nL101 : Nat) (σ102 : St) (x103 : Int32), lpf2 (m_pairs_L101) nL101 σ102 x103 = some σ104 → At G 10 σ102 [(0, .ref (xo X)), (1, .int a1), (2, .int a2), (6, .int v96), (7, .int x92), (9, .int x103)] [] 212 := by
                              intro nL101
                              induction nL101 with
                              | zero => intro σ102 x103 eL101; exact (lpf2_0 eL101).elim
                              | succ nL101 ihL101 =>
                                intro σ102 x103 eL101
                                replace eL101 := lpf2_s eL101
                                obtain ⟨qL101, eL101, hqL101⟩ := eL101
                                rw [m_pairs_L101] at eL101
                                refine A_iload Γ dX1_pairs_212 5 rfl ?_
                                refine A_bipush (v := 6) Γ dX1_pairs_214 (by decide) ?_
                                refine A_icmp_ge (t := 239) Γ dX1_pairs_216 (by decide) (fun c => ?_) (fun c => ?_)
                                · replace eL101 := it_t c eL101
                                  obtain rfl := pr1 (lpx2 eL101 hqL101)
                                  exact A_sub [0, 1, 2, 3, 4] rfl hXL101
                                · replace eL101 := it_f c eL101
                                  refine A_aload_n Γ dX1_pairs_219 0 rfl ?_
                                  refine g1_57 Γ Ξ dX1_pairs_220 ?_
                                  refine A_iload Γ dX1_pairs_223 5 rfl ?_
                                  refine A_aload_n Γ dX1_pairs_225 0 rfl ?_
                                  refine g1_56 Γ Ξ dX1_pairs_226 ?_
                                  refine A_iload Γ dX1_pairs_229 5 rfl ?_
                                  replace eL101 := b1 eL101
                                  obtain ⟨v105, e106, eL101⟩ := eL101
                                  refine r1_56 Γ Ξ e106 dX1_pairs_231 ?_
                                  replace eL101 := b1 eL101
                                  obtain ⟨σ107, e108, eL101⟩ := eL101
                                  refine w1_57 Γ Ξ e108 dX1_pairs_232 ?_
                                  refine A_iinc (v := x103 + 1) (lv' := [(9, .int (x103 + 1)), (0, .ref (xo X)), (1, .int a1), (2, .int a2), (6, .int v96), (7, .int x92)]) Γ dX1_pairs_233 5 rfl rfl (by decide) rfl ?_
                                  refine A_goto (t := 212) Γ dX1_pairs_236 (by decide) ?_
                                  exact A_sub [1, 2, 3, 4, 5, 0] rfl (ihL101 _ _ (lpc2 eL101 hqL101))
                            exact A_sub [3, 4, 5, 1, 6, 0] rfl (hLL101 _ _ _ eLL101)
                    exact A_sub [2, 3, 4, 1, 0] rfl (hLL89 _ _ _ _ eLL89)
                  · replace h := it_t c h
                    refine A_bipush (v := (-4)) Γ dX1_pairs_170 (by decide) ?_
                    obtain ⟨rfl, rfl⟩ := inj2 h
                    exact hret _ _ dX1_pairs_172
                · replace h := it_t c h
                  refine A_aload_n Γ dX1_pairs_159 0 rfl ?_
                  refine A_iconst (v := 3) Γ dX1_pairs_160 (by decide) ?_
                  replace h := b2 h
                  obtain ⟨v121, σ122, e120, h⟩ := h
                  refine kX1_X1meets Γ Ξ hRm (by decide) (by decide) e120 (Nat.le_of_ble_eq_true rfl) dX1_pairs_161 ?_
                  obtain ⟨rfl, rfl⟩ := inj2 h
                  exact hret _ _ dX1_pairs_164
              replace eLL73 := lq3_ex eLL73
              obtain ⟨nL73, eLL73⟩ := eLL73
              have hLL73 : ∀ (nL73 : Nat) (x74 : Int32) (x75 : Int32) (x76 : Int32), lpf3 (m_pairs_L73 σ a1 a2) nL73 x74 x75 x76 = some (x77, x78) → At G 10 σ [(0, .ref (xo X)), (1, .int a1), (2, .int a2), (4, .int x74), (5, .int x75), (6, .int x76)] [] 81 := by
                intro nL73
                induction nL73 with
                | zero => intro x74 x75 x76 eL73; exact (lpf3_0 eL73).elim
                | succ nL73 ihL73 =>
                  intro x74 x75 x76 eL73
                  replace eL73 := lpf3_s eL73
                  obtain ⟨qL73, eL73, hqL73⟩ := eL73
                  rw [m_pairs_L73] at eL73
                  refine A_iload Γ dX1_pairs_81 5 rfl ?_
                  refine A_bipush (v := 6) Γ dX1_pairs_83 (by decide) ?_
                  refine A_icmp_ge (t := 154) Γ dX1_pairs_85 (by decide) (fun c => ?_) (fun c => ?_)
                  · replace eL73 := it_t c eL73
                    obtain ⟨rfl, rfl⟩ := pr2 (lpx3 eL73 hqL73)
                    exact A_sub [0, 1, 2, 3, 4] rfl hXL73
                  · replace eL73 := it_f c eL73
                    refine A_iload Γ dX1_pairs_88 3 rfl ?_
                    replace eL73 := b1 eL73
                    obtain ⟨x80, eJ79, eL73⟩ := eL73
                    have hJJ79 : At G 10 σ [(0, .ref (xo X)), (1, .int a1), (2, .int a2), (5, .int x75), (6, .int x76)] [.int x80] 116 := by
                      refine A_istore (lv' := [(4, .int x80), (0, .ref (xo X)), (1, .int a1), (2, .int a2), (5, .int x75), (6, .int x76)]) Γ dX1_pairs_116 (by decide) rfl ?_
                      refine A_iload Γ dX1_pairs_118 4 rfl ?_
                      replace eL73 := b1 eL73
                      obtain ⟨x86, eJ85, eL73⟩ := eL73
                      have hJJ85 : At G 10 σ [(0, .ref (xo X)), (1, .int a1), (2, .int a2), (4, .int x80), (6, .int x76)] [.int x86] 146 := by
                        refine A_istore (lv' := [(5, .int x86), (0, .ref (xo X)), (1, .int a1), (2, .int a2), (4, .int x80), (6, .int x76)]) Γ dX1_pairs_146 (by decide) rfl ?_
                        refine A_iinc (v := x76 + 1) (lv' := [(6, .int (x76 + 1)), (5, .int x86), (0, .ref (xo X)), (1, .int a1), (2, .int a2), (4, .int x80)]) Γ dX1_pairs_148 5 rfl rfl (by decide) rfl ?_
                        refine A_goto (t := 81) Γ dX1_pairs_151 (by decide) ?_
                        exact A_sub [2, 3, 4, 5, 1, 0] rfl (ihL73 _ _ _ (lpc3 eL73 hqL73))
                      refine A_if_eq (t := 145) Γ dX1_pairs_120 (by decide) (fun c => ?_) (fun c => ?_)
                      · replace eJ85 := it_t c eJ85
                        refine A_iconst (v := 0) Γ dX1_pairs_145 (by decide) ?_
                        obtain rfl := inj1 eJ85
                        exact A_sub [1, 2, 3, 0, 5] rfl hJJ85
                      · replace eJ85 := it_f c eJ85
                        refine A_iload_n Γ dX1_pairs_123 2 rfl ?_
                        refine A_iload Γ dX1_pairs_124 5 rfl ?_
                        refine A_ishr Γ dX1_pairs_126 ?_
                        refine A_iconst (v := 1) Γ dX1_pairs_127 (by decide) ?_
                        refine A_iand Γ dX1_pairs_128 ?_
                        refine A_if_eq (t := 141) Γ dX1_pairs_129 (by decide) (fun c => ?_) (fun c => ?_)
                        · replace eJ85 := it_t c eJ85
                          refine A_iconst (v := 1) Γ dX1_pairs_141 (by decide) ?_
                          refine A_goto (t := 146) Γ dX1_pairs_142 (by decide) ?_
                          obtain rfl := inj1 eJ85
                          exact A_sub [1, 2, 3, 0, 5] rfl hJJ85
                        · replace eJ85 := it_f c eJ85
                          refine A_aload_n Γ dX1_pairs_132 1 rfl ?_
                          refine A_iload Γ dX1_pairs_133 5 rfl ?_
                          replace eJ85 := b1 eJ85
                          obtain ⟨v88, e87, eJ85⟩ := eJ85
                          refine kX1_X1maySwap Γ Ξ hRm (by decide) (by decide) e87 (Nat.le_of_ble_eq_true rfl) dX1_pairs_135 ?_
                          refine A_if_eq (t := 145) Γ dX1_pairs_138 (by decide) (fun c => ?_) (fun c => ?_)
                          · replace eJ85 := it_t c eJ85
                            refine A_iconst (v := 0) Γ dX1_pairs_145 (by decide) ?_
                            obtain rfl := inj1 eJ85
                            exact A_sub [1, 2, 3, 0, 5] rfl hJJ85
                          · replace eJ85 := it_f c eJ85
                            refine A_iconst (v := 1) Γ dX1_pairs_141 (by decide) ?_
                            refine A_goto (t := 146) Γ dX1_pairs_142 (by decide) ?_
                            obtain rfl := inj1 eJ85
                            exact A_sub [1, 2, 3, 0, 5] rfl hJJ85
                    refine A_if_eq (t := 115) Γ dX1_pairs_90 (by decide) (fun c => ?_) (fun c => ?_)
                    · replace eJ79 := it_t c eJ79
                      refine A_iconst (v := 0) Γ dX1_pairs_115 (by decide) ?_
                      obtain rfl := inj1 eJ79
                      exact A_sub [0, 1, 2, 4, 5] rfl hJJ79
                    · replace eJ79 := it_f c eJ79
                      refine A_aload_n Γ dX1_pairs_93 0 rfl ?_
                      refine g1_7 Γ Ξ dX1_pairs_94 ?_
                      refine A_bipush (v := 40) Γ dX1_pairs_97 (by decide) ?_
                      refine A_iload_n Γ dX1_pairs_99 2 rfl ?_
                      refine A_imul Γ dX1_pairs_100 ?_
                      refine A_iload Γ dX1_pairs_101 5 rfl ?_
                      refine A_iadd Γ dX1_pairs_103 ?_
                      replace eJ79 := b1 eJ79
                      obtain ⟨v81, e82, eJ79⟩ := eJ79
                      refine r1_7 Γ Ξ e82 dX1_pairs_104 ?_
                      replace eJ79 := b1 eJ79
                      obtain ⟨v84, e83, eJ79⟩ := eJ79
                      refine kX1_X1isYard Γ (kpX Ξ) hRm (by decide) (by decide) e83 (Nat.le_of_ble_eq_true rfl) dX1_pairs_105 ?_
                      refine A_if_eq (t := 115) Γ dX1_pairs_108 (by decide) (fun c => ?_) (fun c => ?_)
                      · replace eJ79 := it_t c eJ79
                        refine A_iconst (v := 0) Γ dX1_pairs_115 (by decide) ?_
                        obtain rfl := inj1 eJ79
                        exact A_sub [0, 1, 2, 4, 5] rfl hJJ79
                      · replace eJ79 := it_f c eJ79
                        refine A_iconst (v := 1) Γ dX1_pairs_111 (by decide) ?_
                        refine A_goto (t := 116) Γ dX1_pairs_112 (by decide) ?_
                        obtain rfl := inj1 eJ79
                        exact A_sub [0, 1, 2, 4, 5] rfl hJJ79
              exact A_sub [4, 5, 6, 2, 1, 0] rfl (hLL73 _ _ _ _ eLL73)
            · replace h := it_f c h
              refine A_aload_n Γ dX1_pairs_66 1 rfl ?_
              refine A_iconst (v := 5) Γ dX1_pairs_67 (by decide) ?_
              replace h := b2 h
              obtain ⟨v124, σ125, e123, h⟩ := h
              refine kX1_X1meets Γ Ξ hRm (by decide) (by decide) e123 (Nat.le_of_ble_eq_true rfl) dX1_pairs_68 ?_
              obtain ⟨rfl, rfl⟩ := inj2 h
              exact hret _ _ dX1_pairs_71
          · replace h := it_f c h
            refine A_aload_n Γ dX1_pairs_49 1 rfl ?_
            refine A_iconst (v := 1) Γ dX1_pairs_50 (by decide) ?_
            replace h := b2 h
            obtain ⟨v127, σ128, e126, h⟩ := h
            refine kX1_X1meets Γ Ξ hRm (by decide) (by decide) e126 (Nat.le_of_ble_eq_true rfl) dX1_pairs_51 ?_
            obtain ⟨rfl, rfl⟩ := inj2 h
            exact hret _ _ dX1_pairs_54
        · replace h := it_t c h
          refine A_iconst (v := (-1)) Γ dX1_pairs_38 (by decide) ?_
          obtain ⟨rfl, rfl⟩ := inj2 h
          exact hret _ _ dX1_pairs_39
      · replace h := it_f c h
        refine A_iload_n Γ dX1_pairs_25 0 rfl ?_
        refine A_bipush (v := 6) Γ dX1_pairs_26 (by decide) ?_
        refine A_icmp_ne (t := 38) Γ dX1_pairs_28 (by decide) (fun c => ?_) (fun c => ?_)
        · replace h := it_f c h
          refine A_iconst (v := (-1)) Γ dX1_pairs_38 (by decide) ?_
          obtain ⟨rfl, rfl⟩ := inj2 h
          exact hret _ _ dX1_pairs_39
        · replace h := it_t c h
          refine A_iload_n Γ dX1_pairs_31 3 rfl ?_
          replace h := b1 h
          obtain ⟨v130, e129, h⟩ := h
          refine kX1_X1isRow Γ (kpX Ξ) hRm (by decide) (by decide) e129 (Nat.le_of_ble_eq_true rfl) dX1_pairs_32 ?_
          refine A_if_ne (t := 40) Γ dX1_pairs_35 (by decide) (fun c => ?_) (fun c => ?_)
          · replace h := it_f c h
            refine A_aload_n Γ dX1_pairs_40 1 rfl ?_
            refine g1_6 Γ Ξ dX1_pairs_41 ?_
            refine A_iload_n Γ dX1_pairs_44 3 rfl ?_
            replace h := b1 h
            obtain ⟨v131, e132, h⟩ := h
            refine r1_6 Γ Ξ e132 dX1_pairs_45 ?_
            refine A_if_ge (t := 55) Γ dX1_pairs_46 (by decide) (fun c => ?_) (fun c => ?_)
            · replace h := it_t c h
              refine A_aload_n Γ dX1_pairs_55 1 rfl ?_
              refine g1_6 Γ Ξ dX1_pairs_56 ?_
              refine A_iload_n Γ dX1_pairs_59 3 rfl ?_
              replace h := b1 h
              obtain ⟨v133, e134, h⟩ := h
              refine r1_6 Γ Ξ e134 dX1_pairs_60 ?_
              refine A_bipush (v := 6) Γ dX1_pairs_61 (by decide) ?_
              refine A_icmp_eq (t := 72) Γ dX1_pairs_63 (by decide) (fun c => ?_) (fun c => ?_)
              · replace h := it_t c h
                refine A_iconst (v := 1) Γ dX1_pairs_72 (by decide) ?_
                refine A_istore (lv' := [(4, .int 1), (3, .int v2), (0, .ref (xo X)), (1, .int a1), (2, .int a2)]) Γ dX1_pairs_73 (by decide) rfl ?_
                refine A_iconst (v := 1) Γ dX1_pairs_75 (by decide) ?_
                refine A_istore (lv' := [(5, .int 1), (4, .int 1), (3, .int v2), (0, .ref (xo X)), (1, .int a1), (2, .int a2)]) Γ dX1_pairs_76 (by decide) rfl ?_
                refine A_iconst (v := 0) Γ dX1_pairs_78 (by decide) ?_
                refine A_istore (lv' := [(6, .int 0), (5, .int 1), (4, .int 1), (3, .int v2), (0, .ref (xo X)), (1, .int a1), (2, .int a2)]) Γ dX1_pairs_79 (by decide) rfl ?_
                replace h := b2 h
                obtain ⟨x139, x140, eLL135, h⟩ := h
                have hXL135 : At G 10 σ [(0, .ref (xo X)), (1, .int a1), (2, .int a2), (4, .int x139), (5, .int x140)] [] 154 := by
                  refine A_iload Γ dX1_pairs_154 3 rfl ?_
                  refine A_if_ne (t := 165) Γ dX1_pairs_156 (by decide) (fun c => ?_) (fun c => ?_)
                  · replace h := it_f c h
                    refine A_iload Γ dX1_pairs_165 4 rfl ?_
                    refine A_if_ne (t := 173) Γ dX1_pairs_167 (by decide) (fun c => ?_) (fun c => ?_)
                    · replace h := it_f c h
                      refine A_ldc (v := 100000000) Γ q1362 dX1_pairs_173 ?_
                      refine A_istore (lv' := [(6, .int 100000000), (0, .ref (xo X)), (1, .int a1), (2, .int a2), (4, .int x139), (5, .int x140)]) Γ dX1_pairs_175 (by decide) rfl ?_
                      refine A_iconst (v := 0) Γ dX1_pairs_177 (by decide) ?_
                      refine A_istore (lv' := [(7, .int 0), (6, .int 100000000), (0, .ref (xo X)), (1, .int a1), (2, .int a2), (4, .int x139), (5, .int x140)]) Γ dX1_pairs_178 (by decide) rfl ?_
                      replace h := b2 h
                      obtain ⟨σ155, x156, eLL151, h⟩ := h
                      have hXL151 : At G 10 σ155 [(0, .ref (xo X)), (6, .int x156)] [] 245 := by
                        refine A_iload Γ dX1_pairs_245 1 rfl ?_
                        refine A_ldc (v := 100000000) Γ q1362 dX1_pairs_247 ?_
                        refine A_icmp_ne (t := 258) Γ dX1_pairs_249 (by decide) (fun c => ?_) (fun c => ?_)
                        · replace h := it_f c h
                          refine A_iconst (v := 0) Γ dX1_pairs_258 (by decide) ?_
                          refine A_istore (lv' := [(7, .int 0), (0, .ref (xo X)), (6, .int x156)]) Γ dX1_pairs_259 (by decide) rfl ?_
                          replace h := b1 h
                          obtain ⟨σ174, eLL171, h⟩ := h
                          have hXL171 : At G 10 σ174 [(6, .int x156)] [] 288 := by
                            refine A_iload Γ dX1_pairs_288 0 rfl ?_
                            obtain ⟨rfl, rfl⟩ := inj2 h
                            exact hret _ _ dX1_pairs_290
                          replace eLL171 := lq2_ex eLL171
                          obtain ⟨nL171, eLL171⟩ := eLL171
                          have hLL171 : ∀ (nL171 : Nat) (σ172 : St) (x173 : Int32), lpf2 (m_pairs_L171) nL171 σ172 x173 = some σ174 → At G 10 σ172 [(0, .ref (xo X)), (6, .int x156), (7, .int x173)] [] 261 := by
                            intro nL171
                            induction nL171 with
                            | zero => intro σ172 x173 eL171; exact (lpf2_0 eL171).elim
                            | succ nL171 ihL171 =>
                              intro σ172 x173 eL171
                              replace eL171 := lpf2_s eL171
                              obtain ⟨qL171, eL171, hqL171⟩ := eL171
                              rw [m_pairs_L171] at eL171
                              refine A_iload Γ dX1_pairs_261 2 rfl ?_
                              refine A_bipush (v := 6) Γ dX1_pairs_263 (by decide) ?_
                              refine A_icmp_ge (t := 288) Γ dX1_pairs_265 (by decide) (fun c => ?_) (fun c => ?_)
                              · replace eL171 := it_t c eL171
                                obtain rfl := pr1 (lpx2 eL171 hqL171)
                                exact A_sub [1] rfl hXL171
                              · replace eL171 := it_f c eL171
                                refine A_aload_n Γ dX1_pairs_268 0 rfl ?_
                                refine g1_55 Γ Ξ dX1_pairs_269 ?_
                                refine A_iload Γ dX1_pairs_272 2 rfl ?_
                                refine A_aload_n Γ dX1_pairs_274 0 rfl ?_
                                refine g1_57 Γ Ξ dX1_pairs_275 ?_
                                refine A_iload Γ dX1_pairs_278 2 rfl ?_
                                replace eL171 := b1 eL171
                                obtain ⟨v175, e176, eL171⟩ := eL171
                                refine r1_57 Γ Ξ e176 dX1_pairs_280 ?_
                                replace eL171 := b1 eL171
                                obtain ⟨σ177, e178, eL171⟩ := eL171
                                refine w1_55 Γ Ξ e178 dX1_pairs_281 ?_
                                refine A_iinc (v := x173 + 1) (lv' := [(7, .int (x173 + 1)), (0, .ref (xo X)), (6, .int x156)]) Γ dX1_pairs_282 2 rfl rfl (by decide) rfl ?_
                                refine A_goto (t := 261) Γ dX1_pairs_285 (by decide) ?_
                                exact A_sub [1, 2, 0] rfl (ihL171 _ _ (lpc2 eL171 hqL171))
                          exact A_sub [1, 2, 0] rfl (hLL171 _ _ _ eLL171)
                        · replace h := it_t c h
                          refine A_aload_n Γ dX1_pairs_252 0 rfl ?_
                          refine A_iconst (v := 1) Γ dX1_pairs_253 (by decide) ?_
                          replace h := b2 h
                          obtain ⟨v180, σ181, e179, h⟩ := h
                          refine kX1_X1meets Γ Ξ hRm (by decide) (by decide) e179 (Nat.le_of_ble_eq_true rfl) dX1_pairs_254 ?_
                          obtain ⟨rfl, rfl⟩ := inj2 h
                          exact hret _ _ dX1_pairs_257
                      replace eLL151 := lq3_ex eLL151
                      obtain ⟨nL151, eLL151⟩ := eLL151
                      have hLL151 : ∀ (nL151 : Nat) (σ152 : St) (x153 : Int32) (x154 : Int32), lpf3 (m_pairs_L151 a1 a2) nL151 σ152 x153 x154 = some (σ155, x156) → At G 10 σ152 [(0, .ref (xo X)), (1, .int a1), (2, .int a2), (6, .int x153), (7, .int x154)] [] 180 := by
                        intro nL151
                        induction nL151 with
                        | zero => intro σ152 x153 x154 eL151; exact (lpf3_0 eL151).elim
                        | succ nL151 ihL151 =>
                          intro σ152 x153 x154 eL151
                          replace eL151 := lpf3_s eL151
                          obtain ⟨qL151, eL151, hqL151⟩ := eL151
                          rw [m_pairs_L151] at eL151
                          refine A_iload Γ dX1_pairs_180 4 rfl ?_
                          refine A_sipush (v := 216) Γ dX1_pairs_182 (by decide) ?_
                          refine A_icmp_ge (t := 245) Γ dX1_pairs_185 (by decide) (fun c => ?_) (fun c => ?_)
                          · replace eL151 := it_t c eL151
                            obtain ⟨rfl, rfl⟩ := pr2 (lpx3 eL151 hqL151)
                            exact A_sub [0, 3] rfl hXL151
                          · replace eL151 := it_f c eL151
                            refine A_aload_n Γ dX1_pairs_188 0 rfl ?_
                            refine A_iload_n Γ dX1_pairs_189 1 rfl ?_
                            refine A_iload_n Γ dX1_pairs_190 2 rfl ?_
                            refine A_iload Γ dX1_pairs_191 4 rfl ?_
                            replace eL151 := b2 eL151
                            obtain ⟨v158, σ159, e157, eL151⟩ := eL151
                            refine kX1_X1partWays Γ Ξ hRm (by decide) (by decide) e157 (Nat.le_of_ble_eq_true rfl) dX1_pairs_193 ?_
                            refine A_istore (lv' := [(8, .int v158), (0, .ref (xo X)), (1, .int a1), (2, .int a2), (6, .int x153), (7, .int x154)]) Γ dX1_pairs_196 (by decide) rfl ?_
                            refine A_iload Γ dX1_pairs_198 0 rfl ?_
                            refine A_iload Γ dX1_pairs_200 4 rfl ?_
                            replace eL151 := b2 eL151
                            obtain ⟨σ161, x162, eJ160, eL151⟩ := eL151
                            have hJJ160 : At G 10 σ161 [(0, .ref (xo X)), (1, .int a1), (2, .int a2), (6, .int x162), (7, .int x154)] [] 239 := by
                              refine A_iinc (v := x154 + 1) (lv' := [(7, .int (x154 + 1)), (0, .ref (xo X)), (1, .int a1), (2, .int a2), (6, .int x162)]) Γ dX1_pairs_239 4 rfl rfl (by decide) rfl ?_
                              refine A_goto (t := 180) Γ dX1_pairs_242 (by decide) ?_
                              exact A_sub [1, 2, 3, 4, 0] rfl (ihL151 _ _ _ (lpc3 eL151 hqL151))
                            refine A_icmp_ge (t := 239) Γ dX1_pairs_202 (by decide) (fun c => ?_) (fun c => ?_)
                            · replace eJ160 := it_t c eJ160
                              obtain ⟨rfl, rfl⟩ := inj2 eJ160
                              exact A_sub [1, 2, 3, 4, 5] rfl hJJ160
                            · replace eJ160 := it_f c eJ160
                              refine A_iload Γ dX1_pairs_205 0 rfl ?_
                              refine A_istore (lv' := [(6, .int v158), (8, .int v158), (0, .ref (xo X)), (1, .int a1), (2, .int a2), (7, .int x154)]) Γ dX1_pairs_207 (by decide) rfl ?_
                              refine A_iconst (v := 0) Γ dX1_pairs_209 (by decide) ?_
                              refine A_istore (lv' := [(9, .int 0), (6, .int v158), (8, .int v158), (0, .ref (xo X)), (1, .int a1), (2, .int a2), (7, .int x154)]) Γ dX1_pairs_210 (by decide) rfl ?_
                              replace eJ160 := b1 eJ160
                              obtain ⟨σ166, eLL163, eJ160⟩ := eJ160
                              have hXL163 : At G 10 σ166 [(0, .ref (xo X)), (1, .int a1), (2, .int a2), (6, .int v158), (7, .int x154)] [] 239 := by
                                obtain ⟨rfl, rfl⟩ := inj2 eJ160
                                exact A_sub [0, 1, 2, 3, 4] rfl hJJ160
                              replace eLL163 := lq2_ex eLL163
                              obtain ⟨nL163, eLL163⟩ := eLL163
                              have hLL163 : ∀ (nL163 : Nat) (σ164 : St) (x165 : Int32), lpf2 (m_pairs_L163) nL163 σ164 x165 = some σ166 → At G 10 σ164 [(0, .ref (xo X)), (1, .int a1), (2, .int a2), (6, .int v158), (7, .int x154), (9, .int x165)] [] 212 := by
                                intro nL163
                                induction nL163 with
                                | zero => intro σ164 x165 eL163; exact (lpf2_0 eL163).elim
                                | succ nL163 ihL163 =>
                                  intro σ164 x165 eL163
                                  replace eL163 := lpf2_s eL163
                                  obtain ⟨qL163, eL163, hqL163⟩ := eL163
                                  rw [m_pairs_L163] at eL163
                                  refine A_iload Γ dX1_pairs_212 5 rfl ?_
                                  refine A_bipush (v := 6) Γ dX1_pairs_214 (by decide) ?_
                                  refine A_icmp_ge (t := 239) Γ dX1_pairs_216 (by decide) (fun c => ?_) (fun c => ?_)
                                  · replace eL163 := it_t c eL163
                                    obtain rfl := pr1 (lpx2 eL163 hqL163)
                                    exact A_sub [0, 1, 2, 3, 4] rfl hXL163
                                  · replace eL163 := it_f c eL163
                                    refine A_aload_n Γ dX1_pairs_219 0 rfl ?_
                                    refine g1_57 Γ Ξ dX1_pairs_220 ?_
                                    refine A_iload Γ dX1_pairs_223 5 rfl ?_
                                    refine A_aload_n Γ dX1_pairs_225 0 rfl ?_
                                    refine g1_56 Γ Ξ dX1_pairs_226 ?_
                                    refine A_iload Γ dX1_pairs_229 5 rfl ?_
                                    replace eL163 := b1 eL163
                                    obtain ⟨v167, e168, eL163⟩ := eL163
                                    refine r1_56 Γ Ξ e168 dX1_pairs_231 ?_
                                    replace eL163 := b1 eL163
                                    obtain ⟨σ169, e170, eL163⟩ := eL163
                                    refine w1_57 Γ Ξ e170 dX1_pairs_232 ?_
                                    refine A_iinc (v := x165 + 1) (lv' := [(9, .int (x165 + 1)), (0, .ref (xo X)), (1, .int a1), (2, .int a2), (6, .int v158), (7, .int x154)]) Γ dX1_pairs_233 5 rfl rfl (by decide) rfl ?_
                                    refine A_goto (t := 212) Γ dX1_pairs_236 (by decide) ?_
                                    exact A_sub [1, 2, 3, 4, 5, 0] rfl (ihL163 _ _ (lpc2 eL163 hqL163))
                              exact A_sub [3, 4, 5, 1, 6, 0] rfl (hLL163 _ _ _ eLL163)
                      exact A_sub [2, 3, 4, 1, 0] rfl (hLL151 _ _ _ _ eLL151)
                    · replace h := it_t c h
                      refine A_bipush (v := (-4)) Γ dX1_pairs_170 (by decide) ?_
                      obtain ⟨rfl, rfl⟩ := inj2 h
                      exact hret _ _ dX1_pairs_172
                  · replace h := it_t c h
                    refine A_aload_n Γ dX1_pairs_159 0 rfl ?_
                    refine A_iconst (v := 3) Γ dX1_pairs_160 (by decide) ?_
                    replace h := b2 h
                    obtain ⟨v183, σ184, e182, h⟩ := h
                    refine kX1_X1meets Γ Ξ hRm (by decide) (by decide) e182 (Nat.le_of_ble_eq_true rfl) dX1_pairs_161 ?_
                    obtain ⟨rfl, rfl⟩ := inj2 h
                    exact hret _ _ dX1_pairs_164
                replace eLL135 := lq3_ex eLL135
                obtain ⟨nL135, eLL135⟩ := eLL135
                have hLL135 : ∀ (nL135 : Nat) (x136 : Int32) (x137 : Int32) (x138 : Int32), lpf3 (m_pairs_L135 σ a1 a2) nL135 x136 x137 x138 = some (x139, x140) → At G 10 σ [(0, .ref (xo X)), (1, .int a1), (2, .int a2), (4, .int x136), (5, .int x137), (6, .int x138)] [] 81 := by
                  intro nL135
                  induction nL135 with
                  | zero => intro x136 x137 x138 eL135; exact (lpf3_0 eL135).elim
                  | succ nL135 ihL135 =>
                    intro x136 x137 x138 eL135
                    replace eL135 := lpf3_s eL135
                    obtain ⟨qL135, eL135, hqL135⟩ := eL135
                    rw [m_pairs_L135] at eL135
                    refine A_iload Γ dX1_pairs_81 5 rfl ?_
                    refine A_bipush (v := 6) Γ dX1_pairs_83 (by decide) ?_
                    refine A_icmp_ge (t := 154) Γ dX1_pairs_85 (by decide) (fun c => ?_) (fun c => ?_)
                    · replace eL135 := it_t c eL135
                      obtain ⟨rfl, rfl⟩ := pr2 (lpx3 eL135 hqL135)
                      exact A_sub [0, 1, 2, 3, 4] rfl hXL135
                    · replace eL135 := it_f c eL135
                      refine A_iload Γ dX1_pairs_88 3 rfl ?_
                      replace eL135 := b1 eL135
                      obtain ⟨x142, eJ141, eL135⟩ := eL135
                      have hJJ141 : At G 10 σ [(0, .ref (xo X)), (1, .int a1), (2, .int a2), (5, .int x137), (6, .int x138)] [.int x142] 116 := by
                        refine A_istore (lv' := [(4, .int x142), (0, .ref (xo X)), (1, .int a1), (2, .int a2), (5, .int x137), (6, .int x138)]) Γ dX1_pairs_116 (by decide) rfl ?_
                        refine A_iload Γ dX1_pairs_118 4 rfl ?_
                        replace eL135 := b1 eL135
                        obtain ⟨x148, eJ147, eL135⟩ := eL135
                        have hJJ147 : At G 10 σ [(0, .ref (xo X)), (1, .int a1), (2, .int a2), (4, .int x142), (6, .int x138)] [.int x148] 146 := by
                          refine A_istore (lv' := [(5, .int x148), (0, .ref (xo X)), (1, .int a1), (2, .int a2), (4, .int x142), (6, .int x138)]) Γ dX1_pairs_146 (by decide) rfl ?_
                          refine A_iinc (v := x138 + 1) (lv' := [(6, .int (x138 + 1)), (5, .int x148), (0, .ref (xo X)), (1, .int a1), (2, .int a2), (4, .int x142)]) Γ dX1_pairs_148 5 rfl rfl (by decide) rfl ?_
                          refine A_goto (t := 81) Γ dX1_pairs_151 (by decide) ?_
                          exact A_sub [2, 3, 4, 5, 1, 0] rfl (ihL135 _ _ _ (lpc3 eL135 hqL135))
                        refine A_if_eq (t := 145) Γ dX1_pairs_120 (by decide) (fun c => ?_) (fun c => ?_)
                        · replace eJ147 := it_t c eJ147
                          refine A_iconst (v := 0) Γ dX1_pairs_145 (by decide) ?_
                          obtain rfl := inj1 eJ147
                          exact A_sub [1, 2, 3, 0, 5] rfl hJJ147
                        · replace eJ147 := it_f c eJ147
                          refine A_iload_n Γ dX1_pairs_123 2 rfl ?_
                          refine A_iload Γ dX1_pairs_124 5 rfl ?_
                          refine A_ishr Γ dX1_pairs_126 ?_
                          refine A_iconst (v := 1) Γ dX1_pairs_127 (by decide) ?_
                          refine A_iand Γ dX1_pairs_128 ?_
                          refine A_if_eq (t := 141) Γ dX1_pairs_129 (by decide) (fun c => ?_) (fun c => ?_)
                          · replace eJ147 := it_t c eJ147
                            refine A_iconst (v := 1) Γ dX1_pairs_141 (by decide) ?_
                            refine A_goto (t := 146) Γ dX1_pairs_142 (by decide) ?_
                            obtain rfl := inj1 eJ147
                            exact A_sub [1, 2, 3, 0, 5] rfl hJJ147
                          · replace eJ147 := it_f c eJ147
                            refine A_aload_n Γ dX1_pairs_132 1 rfl ?_
                            refine A_iload Γ dX1_pairs_133 5 rfl ?_
                            replace eJ147 := b1 eJ147
                            obtain ⟨v150, e149, eJ147⟩ := eJ147
                            refine kX1_X1maySwap Γ Ξ hRm (by decide) (by decide) e149 (Nat.le_of_ble_eq_true rfl) dX1_pairs_135 ?_
                            refine A_if_eq (t := 145) Γ dX1_pairs_138 (by decide) (fun c => ?_) (fun c => ?_)
                            · replace eJ147 := it_t c eJ147
                              refine A_iconst (v := 0) Γ dX1_pairs_145 (by decide) ?_
                              obtain rfl := inj1 eJ147
                              exact A_sub [1, 2, 3, 0, 5] rfl hJJ147
                            · replace eJ147 := it_f c eJ147
                              refine A_iconst (v := 1) Γ dX1_pairs_141 (by decide) ?_
                              refine A_goto (t := 146) Γ dX1_pairs_142 (by decide) ?_
                              obtain rfl := inj1 eJ147
                              exact A_sub [1, 2, 3, 0, 5] rfl hJJ147
                      refine A_if_eq (t := 115) Γ dX1_pairs_90 (by decide) (fun c => ?_) (fun c => ?_)
                      · replace eJ141 := it_t c eJ141
                        refine A_iconst (v := 0) Γ dX1_pairs_115 (by decide) ?_
                        obtain rfl := inj1 eJ141
                        exact A_sub [0, 1, 2, 4, 5] rfl hJJ141
                      · replace eJ141 := it_f c eJ141
                        refine A_aload_n Γ dX1_pairs_93 0 rfl ?_
                        refine g1_7 Γ Ξ dX1_pairs_94 ?_
                        refine A_bipush (v := 40) Γ dX1_pairs_97 (by decide) ?_
                        refine A_iload_n Γ dX1_pairs_99 2 rfl ?_
                        refine A_imul Γ dX1_pairs_100 ?_
                        refine A_iload Γ dX1_pairs_101 5 rfl ?_
                        refine A_iadd Γ dX1_pairs_103 ?_
                        replace eJ141 := b1 eJ141
                        obtain ⟨v143, e144, eJ141⟩ := eJ141
                        refine r1_7 Γ Ξ e144 dX1_pairs_104 ?_
                        replace eJ141 := b1 eJ141
                        obtain ⟨v146, e145, eJ141⟩ := eJ141
                        refine kX1_X1isYard Γ (kpX Ξ) hRm (by decide) (by decide) e145 (Nat.le_of_ble_eq_true rfl) dX1_pairs_105 ?_
                        refine A_if_eq (t := 115) Γ dX1_pairs_108 (by decide) (fun c => ?_) (fun c => ?_)
                        · replace eJ141 := it_t c eJ141
                          refine A_iconst (v := 0) Γ dX1_pairs_115 (by decide) ?_
                          obtain rfl := inj1 eJ141
                          exact A_sub [0, 1, 2, 4, 5] rfl hJJ141
                        · replace eJ141 := it_f c eJ141
                          refine A_iconst (v := 1) Γ dX1_pairs_111 (by decide) ?_
                          refine A_goto (t := 116) Γ dX1_pairs_112 (by decide) ?_
                          obtain rfl := inj1 eJ141
                          exact A_sub [0, 1, 2, 4, 5] rfl hJJ141
                exact A_sub [4, 5, 6, 2, 1, 0] rfl (hLL135 _ _ _ _ eLL135)
              · replace h := it_f c h
                refine A_aload_n Γ dX1_pairs_66 1 rfl ?_
                refine A_iconst (v := 5) Γ dX1_pairs_67 (by decide) ?_
                replace h := b2 h
                obtain ⟨v186, σ187, e185, h⟩ := h
                refine kX1_X1meets Γ Ξ hRm (by decide) (by decide) e185 (Nat.le_of_ble_eq_true rfl) dX1_pairs_68 ?_
                obtain ⟨rfl, rfl⟩ := inj2 h
                exact hret _ _ dX1_pairs_71
            · replace h := it_f c h
              refine A_aload_n Γ dX1_pairs_49 1 rfl ?_
              refine A_iconst (v := 1) Γ dX1_pairs_50 (by decide) ?_
              replace h := b2 h
              obtain ⟨v189, σ190, e188, h⟩ := h
              refine kX1_X1meets Γ Ξ hRm (by decide) (by decide) e188 (Nat.le_of_ble_eq_true rfl) dX1_pairs_51 ?_
              obtain ⟨rfl, rfl⟩ := inj2 h
              exact hret _ _ dX1_pairs_54
          · replace h := it_t c h
            refine A_iconst (v := (-1)) Γ dX1_pairs_38 (by decide) ?_
            obtain ⟨rfl, rfl⟩ := inj2 h
            exact hret _ _ dX1_pairs_39
theorem mtX1_pairs (l : Launch) (X : Xw) {σ σ' : St} {a1 : Int32} {a2 : Int32} {r : Int32} (h : m_pairs σ a1 a2 = some (r, σ')) : MetZ 1 l X yX1_pairs cX1_pairs 10 (some .int) 6 160 [.ref (xo X), .int a1, .int a2] σ (some (.int r)) σ' := MetZ.ofAt (by decide) (Nat.le_of_ble_eq_true rfl) (fun G _ Γ Ξ hR hret => wkX1_pairs Γ Ξ hR h hret)

set_option maxHeartbeats 4000000 in
set_option maxRecDepth 100000 in
theorem wkX1_partner {G : Gx} {X : Xw} {σ : St} (Γ : Ok G RX1 cX1_partner 2) (Ξ : OkX 1 G X) (hRm : Rm G 2 42) {a1 : Int32} {r : Int32} (h : m_partner σ a1 = some r) (hret : ∀ (pc : Nat) (lv : List (Nat × Value)), retIs cX1_partner (some .int) (some (.int r)) pc → At G 2 σ lv [.int r] pc) : At G 2 σ [(0, .ref (xo X)), (1, .int a1)] [] 0 := by
  rw [m_partner] at h
  refine A_iload_n Γ dX1_partner_0 1 rfl ?_
  replace h := b1 h
  obtain ⟨v2, e1, h⟩ := h
  refine kX1_X1isTractor Γ (kpX Ξ) hRm (by decide) (by decide) e1 (Nat.le_of_ble_eq_true rfl) dX1_partner_1 ?_
  replace h := b1 h
  obtain ⟨x4, eJ3, h⟩ := h
  have hJJ3 : At G 2 σ [] [.int x4] 17 := by
    obtain rfl := inj1 h
    exact hret _ _ dX1_partner_17
  refine A_if_eq (t := 16) Γ dX1_partner_4 (by decide) (fun c => ?_) (fun c => ?_)
  · replace eJ3 := it_t c eJ3
    refine A_iconst (v := (-1)) Γ dX1_partner_16 (by decide) ?_
    obtain rfl := inj1 eJ3
    exact A_sub [] rfl hJJ3
  · replace eJ3 := it_f c eJ3
    refine A_aload_n Γ dX1_partner_7 0 rfl ?_
    refine g1_55 Γ Ξ dX1_partner_8 ?_
    refine A_iload_n Γ dX1_partner_11 1 rfl ?_
    replace eJ3 := b1 eJ3
    obtain ⟨v5, e6, eJ3⟩ := eJ3
    refine r1_55 Γ Ξ e6 dX1_partner_12 ?_
    refine A_goto (t := 17) Γ dX1_partner_13 (by decide) ?_
    obtain rfl := inj1 eJ3
    exact A_sub [] rfl hJJ3
theorem mtX1_partner (l : Launch) (X : Xw) {σ : St} {a1 : Int32} {r : Int32} (h : m_partner σ a1 = some r) : MetZ 1 l X yX1_partner cX1_partner 2 (some .int) 2 42 [.ref (xo X), .int a1] σ (some (.int r)) σ := MetZ.ofAt (by decide) (Nat.le_of_ble_eq_true rfl) (fun G _ Γ Ξ hR hret => wkX1_partner Γ Ξ hR h hret)

set_option maxHeartbeats 4000000 in
set_option maxRecDepth 100000 in
theorem wkX1_late {G : Gx} {X : Xw} {σ σ' : St} (Γ : Ok G RX1 cX1_late 13) (Ξ : OkX 1 G X) (hRm : Rm G 3 80) {a1 : Int32} {a2 : Int32} {a3 : Int32} {a4 : Int32} {a5 : Int32} {a6 : Int32} {r : Int32} (h : m_late σ a1 a2 a3 a4 a5 a6 = some (r, σ')) (hret : ∀ (pc : Nat) (lv : List (Nat × Value)), retIs cX1_late (some .int) (some (.int r)) pc → At G 13 σ' lv [.int r] pc) : At G 13 σ [(0, .ref (xo X)), (1, .int a1), (2, .int a2), (3, .int a3), (4, .int a4), (5, .int a5), (6, .int a6)] [] 0 := by
  rw [m_late] at h
  refine A_iload_n Γ dX1_late_0 1 rfl ?_
  replace h := b1 h
  obtain ⟨v2, e1, h⟩ := h
  refine kX1_X1isTractor Γ (kpX Ξ) hRm (by decide) (by decide) e1 (Nat.le_of_ble_eq_true rfl) dX1_late_1 ?_
  refine A_if_eq (t := 57) Γ dX1_late_4 (by decide) (fun c => ?_) (fun c => ?_)
  · replace h := it_t c h
    refine A_iconst (v := (-1)) Γ dX1_late_57 (by decide) ?_
    obtain ⟨rfl, rfl⟩ := inj2 h
    exact hret _ _ dX1_late_58
  · replace h := it_f c h
    refine A_iload_n Γ dX1_late_7 2 rfl ?_
    replace h := b1 h
    obtain ⟨v4, e3, h⟩ := h
    refine kX1_X1isTractor Γ (kpX Ξ) hRm (by decide) (by decide) e3 (Nat.le_of_ble_eq_true rfl) dX1_late_8 ?_
    refine A_if_eq (t := 57) Γ dX1_late_11 (by decide) (fun c => ?_) (fun c => ?_)
    · replace h := it_t c h
      refine A_iconst (v := (-1)) Γ dX1_late_57 (by decide) ?_
      obtain ⟨rfl, rfl⟩ := inj2 h
      exact hret _ _ dX1_late_58
    · replace h := it_f c h
      refine A_iload_n Γ dX1_late_14 1 rfl ?_
      refine A_iload_n Γ dX1_late_15 2 rfl ?_
      refine A_icmp_eq (t := 57) Γ dX1_late_16 (by decide) (fun c => ?_) (fun c => ?_)
      · replace h := it_t c h
        refine A_iconst (v := (-1)) Γ dX1_late_57 (by decide) ?_
        obtain ⟨rfl, rfl⟩ := inj2 h
        exact hret _ _ dX1_late_58
      · replace h := it_f c h
        refine A_iload_n Γ dX1_late_19 3 rfl ?_
        replace h := b1 h
        obtain ⟨v6, e5, h⟩ := h
        refine kX1_X1isYard Γ (kpX Ξ) hRm (by decide) (by decide) e5 (Nat.le_of_ble_eq_true rfl) dX1_late_20 ?_
        refine A_if_eq (t := 57) Γ dX1_late_23 (by decide) (fun c => ?_) (fun c => ?_)
        · replace h := it_t c h
          refine A_iconst (v := (-1)) Γ dX1_late_57 (by decide) ?_
          obtain ⟨rfl, rfl⟩ := inj2 h
          exact hret _ _ dX1_late_58
        · replace h := it_f c h
          refine A_iload Γ dX1_late_26 4 rfl ?_
          replace h := b1 h
          obtain ⟨v8, e7, h⟩ := h
          refine kX1_X1isYard Γ (kpX Ξ) hRm (by decide) (by decide) e7 (Nat.le_of_ble_eq_true rfl) dX1_late_28 ?_
          refine A_if_eq (t := 57) Γ dX1_late_31 (by decide) (fun c => ?_) (fun c => ?_)
          · replace h := it_t c h
            refine A_iconst (v := (-1)) Γ dX1_late_57 (by decide) ?_
            obtain ⟨rfl, rfl⟩ := inj2 h
            exact hret _ _ dX1_late_58
          · replace h := it_f c h
            refine A_iload Γ dX1_late_34 5 rfl ?_
            refine A_iconst (v := 0) Γ dX1_late_36 (by decide) ?_
            refine A_sipush (v := 2000) Γ dX1_late_37 (by decide) ?_
            replace h := b1 h
            obtain ⟨v10, e9, h⟩ := h
            refine kX1_X1in Γ (kpX Ξ) hRm (by decide) (by decide) e9 (Nat.le_of_ble_eq_true rfl) dX1_late_40 ?_
            refine A_if_eq (t := 57) Γ dX1_late_43 (by decide) (fun c => ?_) (fun c => ?_)
            · replace h := it_t c h
              refine A_iconst (v := (-1)) Γ dX1_late_57 (by decide) ?_
              obtain ⟨rfl, rfl⟩ := inj2 h
              exact hret _ _ dX1_late_58
            · replace h := it_f c h
              refine A_iload Γ dX1_late_46 6 rfl ?_
              refine A_iconst (v := 0) Γ dX1_late_48 (by decide) ?_
              refine A_ldc (v := 99999) Γ q1338 dX1_late_49 ?_
              replace h := b1 h
              obtain ⟨v12, e11, h⟩ := h
              refine kX1_X1in Γ (kpX Ξ) hRm (by decide) (by decide) e11 (Nat.le_of_ble_eq_true rfl) dX1_late_51 ?_
              refine A_if_ne (t := 59) Γ dX1_late_54 (by decide) (fun c => ?_) (fun c => ?_)
              · replace h := it_f c h
                refine A_aload_n Γ dX1_late_59 0 rfl ?_
                refine A_iload_n Γ dX1_late_60 1 rfl ?_
                replace h := b1 h
                obtain ⟨v14, e13, h⟩ := h
                refine kX1_X1maySwap Γ Ξ hRm (by decide) (by decide) e13 (Nat.le_of_ble_eq_true rfl) dX1_late_61 ?_
                refine A_if_eq (t := 75) Γ dX1_late_64 (by decide) (fun c => ?_) (fun c => ?_)
                · replace h := it_t c h
                  refine A_bipush (v := (-4)) Γ dX1_late_75 (by decide) ?_
                  obtain ⟨rfl, rfl⟩ := inj2 h
                  exact hret _ _ dX1_late_77
                · replace h := it_f c h
                  refine A_aload_n Γ dX1_late_67 0 rfl ?_
                  refine A_iload_n Γ dX1_late_68 2 rfl ?_
                  replace h := b1 h
                  obtain ⟨v16, e15, h⟩ := h
                  refine kX1_X1maySwap Γ Ξ hRm (by decide) (by decide) e15 (Nat.le_of_ble_eq_true rfl) dX1_late_69 ?_
                  refine A_if_ne (t := 78) Γ dX1_late_72 (by decide) (fun c => ?_) (fun c => ?_)
                  · replace h := it_f c h
                    refine A_aload_n Γ dX1_late_78 0 rfl ?_
                    refine A_iload_n Γ dX1_late_79 1 rfl ?_
                    refine A_iload_n Γ dX1_late_80 2 rfl ?_
                    refine A_iload_n Γ dX1_late_81 3 rfl ?_
                    refine A_iload_n Γ dX1_late_82 3 rfl ?_
                    refine A_iload Γ dX1_late_83 4 rfl ?_
                    refine A_iload Γ dX1_late_85 5 rfl ?_
                    replace h := b2 h
                    obtain ⟨v18, σ19, e17, h⟩ := h
                    refine kX1_X1swapsAt Γ Ξ hRm (by decide) (by decide) e17 (Nat.le_of_ble_eq_true rfl) dX1_late_87 ?_
                    refine A_if_ne (t := 99) Γ dX1_late_90 (by decide) (fun c => ?_) (fun c => ?_)
                    · replace h := it_f c h
                      refine A_aload_n Γ dX1_late_99 0 rfl ?_
                      refine g1_53 Γ Ξ dX1_late_100 ?_
                      refine A_iload Γ dX1_late_103 6 rfl ?_
                      replace h := b1 h
                      obtain ⟨x21, eJ20, h⟩ := h
                      have hJJ20 : At G 13 σ19 [(0, .ref (xo X)), (1, .int a1), (2, .int a2)] [.long x21] 120 := by
                        refine A_lstore (lv' := [(7, .long x21), (0, .ref (xo X)), (1, .int a1), (2, .int a2)]) Γ dX1_late_120 (by decide) rfl ?_
                        refine A_lload Γ dX1_late_122 0 rfl ?_
                        refine A_aload_n Γ dX1_late_124 1 rfl ?_
                        refine g1_21 Γ Ξ dX1_late_125 ?_
                        refine A_aload_n Γ dX1_late_128 1 rfl ?_
                        refine g1_31 Γ Ξ dX1_late_129 ?_
                        refine A_iload_n Γ dX1_late_132 3 rfl ?_
                        replace h := b1 h
                        obtain ⟨v22, e23, h⟩ := h
                        refine r1_31 Γ Ξ e23 dX1_late_133 ?_
                        replace h := b1 h
                        obtain ⟨v24, e25, h⟩ := h
                        refine r1_21 Γ Ξ e25 dX1_late_134 ?_
                        refine A_i2l Γ dX1_late_135 ?_
                        refine A_lmul Γ dX1_late_136 ?_
                        refine A_ldc2 (v := 1000) Γ q1609 dX1_late_137 ?_
                        refine A_ldiv Γ dX1_late_140 (by decide) ?_
                        refine A_lstore (lv' := [(9, .long ((x21 * v24.toInt64) / 1000)), (7, .long x21), (0, .ref (xo X)), (1, .int a1), (2, .int a2)]) Γ dX1_late_141 (by decide) rfl ?_
                        refine A_aload_n Γ dX1_late_143 2 rfl ?_
                        refine g1_21 Γ Ξ dX1_late_144 ?_
                        refine A_aload_n Γ dX1_late_147 2 rfl ?_
                        refine g1_31 Γ Ξ dX1_late_148 ?_
                        refine A_iload_n Γ dX1_late_151 3 rfl ?_
                        replace h := b1 h
                        obtain ⟨v26, e27, h⟩ := h
                        refine r1_31 Γ Ξ e27 dX1_late_152 ?_
                        replace h := b1 h
                        obtain ⟨v28, e29, h⟩ := h
                        refine r1_21 Γ Ξ e29 dX1_late_153 ?_
                        refine A_aload_n Γ dX1_late_154 2 rfl ?_
                        refine g1_21 Γ Ξ dX1_late_155 ?_
                        refine A_aload_n Γ dX1_late_158 2 rfl ?_
                        refine g1_31 Γ Ξ dX1_late_159 ?_
                        refine A_iload_n Γ dX1_late_162 4 rfl ?_
                        replace h := b1 h
                        obtain ⟨v30, e31, h⟩ := h
                        refine r1_31 Γ Ξ e31 dX1_late_163 ?_
                        replace h := b1 h
                        obtain ⟨v32, e33, h⟩ := h
                        refine r1_21 Γ Ξ e33 dX1_late_164 ?_
                        refine A_iadd Γ dX1_late_165 ?_
                        refine A_bipush (v := 10) Γ dX1_late_166 (by decide) ?_
                        refine A_idiv Γ dX1_late_168 (by decide) ?_
                        refine A_i2l Γ dX1_late_169 ?_
                        refine A_lstore (lv' := [(11, .long (((v28 + v32) / 10).toInt64)), (9, .long ((x21 * v24.toInt64) / 1000)), (7, .long x21), (0, .ref (xo X)), (1, .int a1), (2, .int a2)]) Γ dX1_late_170 (by decide) rfl ?_
                        refine A_lload Γ dX1_late_172 1 rfl ?_
                        refine A_lload Γ dX1_late_174 0 rfl ?_
                        refine A_lcmp Γ dX1_late_176 ?_
                        replace h := b2 h
                        obtain ⟨σ35, x36, eJ34, h⟩ := h
                        have hJJ34 : At G 13 σ35 [] [.int x36] 199 := by
                          obtain ⟨rfl, rfl⟩ := inj2 h
                          exact hret _ _ dX1_late_199
                        refine A_if_gt (t := 191) Γ dX1_late_177 (by decide) (fun c => ?_) (fun c => ?_)
                        · replace eJ34 := it_t c eJ34
                          refine A_aload_n Γ dX1_late_191 3 rfl ?_
                          refine A_lload Γ dX1_late_192 0 rfl ?_
                          refine A_l2i Γ dX1_late_194 ?_
                          refine A_iconst (v := 0) Γ dX1_late_195 (by decide) ?_
                          replace eJ34 := b2 eJ34
                          obtain ⟨v38, σ39, e37, eJ34⟩ := eJ34
                          refine kX1_X1ask Γ Ξ hRm (by decide) (by decide) e37 (Nat.le_of_ble_eq_true rfl) dX1_late_196 ?_
                          obtain ⟨rfl, rfl⟩ := inj2 eJ34
                          exact A_sub [] rfl hJJ34
                        · replace eJ34 := it_f c eJ34
                          refine A_aload_n Γ dX1_late_180 3 rfl ?_
                          refine A_lload Γ dX1_late_181 1 rfl ?_
                          refine A_l2i Γ dX1_late_183 ?_
                          refine A_iconst (v := 1) Γ dX1_late_184 (by decide) ?_
                          replace eJ34 := b2 eJ34
                          obtain ⟨v41, σ42, e40, eJ34⟩ := eJ34
                          refine kX1_X1ask Γ Ξ hRm (by decide) (by decide) e40 (Nat.le_of_ble_eq_true rfl) dX1_late_185 ?_
                          refine A_goto (t := 199) Γ dX1_late_188 (by decide) ?_
                          obtain ⟨rfl, rfl⟩ := inj2 eJ34
                          exact A_sub [] rfl hJJ34
                      refine A_icmp_le (t := 119) Γ dX1_late_105 (by decide) (fun c => ?_) (fun c => ?_)
                      · replace eJ20 := it_t c eJ20
                        refine A_lconst (v := 0) Γ dX1_late_119 (by decide) ?_
                        obtain rfl := inj1 eJ20
                        exact A_sub [0, 1, 2] rfl hJJ20
                      · replace eJ20 := it_f c eJ20
                        refine A_aload_n Γ dX1_late_108 0 rfl ?_
                        refine g1_53 Γ Ξ dX1_late_109 ?_
                        refine A_iload Γ dX1_late_112 6 rfl ?_
                        refine A_isub Γ dX1_late_114 ?_
                        refine A_i2l Γ dX1_late_115 ?_
                        refine A_goto (t := 120) Γ dX1_late_116 (by decide) ?_
                        obtain rfl := inj1 eJ20
                        exact A_sub [0, 1, 2] rfl hJJ20
                    · replace h := it_t c h
                      refine A_aload_n Γ dX1_late_93 0 rfl ?_
                      refine A_iconst (v := 1) Γ dX1_late_94 (by decide) ?_
                      replace h := b2 h
                      obtain ⟨v44, σ45, e43, h⟩ := h
                      refine kX1_X1meets Γ Ξ hRm (by decide) (by decide) e43 (Nat.le_of_ble_eq_true rfl) dX1_late_95 ?_
                      obtain ⟨rfl, rfl⟩ := inj2 h
                      exact hret _ _ dX1_late_98
                  · replace h := it_t c h
                    refine A_bipush (v := (-4)) Γ dX1_late_75 (by decide) ?_
                    obtain ⟨rfl, rfl⟩ := inj2 h
                    exact hret _ _ dX1_late_77
              · replace h := it_t c h
                refine A_iconst (v := (-1)) Γ dX1_late_57 (by decide) ?_
                obtain ⟨rfl, rfl⟩ := inj2 h
                exact hret _ _ dX1_late_58
theorem mtX1_late (l : Launch) (X : Xw) {σ σ' : St} {a1 : Int32} {a2 : Int32} {a3 : Int32} {a4 : Int32} {a5 : Int32} {a6 : Int32} {r : Int32} (h : m_late σ a1 a2 a3 a4 a5 a6 = some (r, σ')) : MetZ 1 l X yX1_late cX1_late 13 (some .int) 3 80 [.ref (xo X), .int a1, .int a2, .int a3, .int a4, .int a5, .int a6] σ (some (.int r)) σ' := MetZ.ofAt (by decide) (Nat.le_of_ble_eq_true rfl) (fun G _ Γ Ξ hR hret => wkX1_late Γ Ξ hR h hret)

set_option maxHeartbeats 4000000 in
set_option maxRecDepth 100000 in
theorem wkX1_yardsOf {G : Gx} {X : Xw} {σ σ' : St} (Γ : Ok G RX1 cX1_yardsOf 5) (Ξ : OkX 1 G X) (hRm : Rm G 2 51) {a1 : Int32} {r : Int32} (h : m_yardsOf σ a1 = some (r, σ')) (hret : ∀ (pc : Nat) (lv : List (Nat × Value)), retIs cX1_yardsOf (some .int) (some (.int r)) pc → At G 5 σ' lv [.int r] pc) : At G 5 σ [(0, .ref (xo X)), (1, .int a1)] [] 0 := by
  rw [m_yardsOf] at h
  refine A_bipush (v := (-9)) Γ dX1_yardsOf_0 (by decide) ?_
  refine A_istore_n (lv' := [(2, .int (-9)), (0, .ref (xo X)), (1, .int a1)]) Γ dX1_yardsOf_2 (by decide) rfl ?_
  refine A_iconst (v := 0) Γ dX1_yardsOf_3 (by decide) ?_
  refine A_istore_n (lv' := [(3, .int 0), (2, .int (-9)), (0, .ref (xo X)), (1, .int a1)]) Γ dX1_yardsOf_4 (by decide) rfl ?_
  replace h := b1 h
  obtain ⟨x4, eLL1, h⟩ := h
  have hXL1 : At G 5 σ [(0, .ref (xo X)), (2, .int x4)] [] 45 := by
    refine A_iconst (v := 0) Γ dX1_yardsOf_45 (by decide) ?_
    refine A_istore_n (lv' := [(3, .int 0), (0, .ref (xo X)), (2, .int x4)]) Γ dX1_yardsOf_46 (by decide) rfl ?_
    refine A_iconst (v := 0) Γ dX1_yardsOf_47 (by decide) ?_
    refine A_istore (lv' := [(4, .int 0), (3, .int 0), (0, .ref (xo X)), (2, .int x4)]) Γ dX1_yardsOf_48 (by decide) rfl ?_
    replace h := b2 h
    obtain ⟨σ15, x16, eLL11, h⟩ := h
    have hXL11 : At G 5 σ15 [(3, .int x16)] [] 99 := by
      refine A_iload_n Γ dX1_yardsOf_99 0 rfl ?_
      obtain ⟨rfl, rfl⟩ := inj2 h
      exact hret _ _ dX1_yardsOf_100
    replace eLL11 := lq3_ex eLL11
    obtain ⟨nL11, eLL11⟩ := eLL11
    have hLL11 : ∀ (nL11 : Nat) (σ12 : St) (x13 : Int32) (x14 : Int32), lpf3 (m_yardsOf_L11 x4) nL11 σ12 x13 x14 = some (σ15, x16) → At G 5 σ12 [(0, .ref (xo X)), (2, .int x4), (3, .int x13), (4, .int x14)] [] 50 := by
      intro nL11
      induction nL11 with
      | zero => intro σ12 x13 x14 eL11; exact (lpf3_0 eL11).elim
      | succ nL11 ihL11 =>
        intro σ12 x13 x14 eL11
        replace eL11 := lpf3_s eL11
        obtain ⟨qL11, eL11, hqL11⟩ := eL11
        rw [m_yardsOf_L11] at eL11
        refine A_iload Γ dX1_yardsOf_50 3 rfl ?_
        refine A_bipush (v := 8) Γ dX1_yardsOf_52 (by decide) ?_
        refine A_icmp_ge (t := 99) Γ dX1_yardsOf_54 (by decide) (fun c => ?_) (fun c => ?_)
        · replace eL11 := it_t c eL11
          obtain ⟨rfl, rfl⟩ := pr2 (lpx3 eL11 hqL11)
          exact A_sub [2] rfl hXL11
        · replace eL11 := it_f c eL11
          refine A_iload_n Γ dX1_yardsOf_57 2 rfl ?_
          refine A_aload_n Γ dX1_yardsOf_58 0 rfl ?_
          refine A_aload_n Γ dX1_yardsOf_59 0 rfl ?_
          refine g1_39 Γ Ξ dX1_yardsOf_60 ?_
          refine A_iload_n Γ dX1_yardsOf_63 1 rfl ?_
          replace eL11 := b1 eL11
          obtain ⟨v17, e18, eL11⟩ := eL11
          refine r1_39 Γ Ξ e18 dX1_yardsOf_64 ?_
          refine A_aload_n Γ dX1_yardsOf_65 0 rfl ?_
          refine g1_37 Γ Ξ dX1_yardsOf_66 ?_
          refine A_iload_n Γ dX1_yardsOf_69 1 rfl ?_
          replace eL11 := b1 eL11
          obtain ⟨v19, e20, eL11⟩ := eL11
          refine r1_37 Γ Ξ e20 dX1_yardsOf_70 ?_
          refine A_iload Γ dX1_yardsOf_71 3 rfl ?_
          replace eL11 := b2 eL11
          obtain ⟨v22, σ23, e21, eL11⟩ := eL11
          refine kX1_X1comesTo Γ Ξ hRm (by decide) (by decide) e21 (Nat.le_of_ble_eq_true rfl) dX1_yardsOf_73 ?_
          refine A_aload_n Γ dX1_yardsOf_76 0 rfl ?_
          refine g1_5 Γ Ξ dX1_yardsOf_77 ?_
          replace eL11 := b1 eL11
          obtain ⟨x25, eJ24, eL11⟩ := eL11
          have hJJ24 : At G 5 σ23 [(0, .ref (xo X)), (2, .int x4), (4, .int x14)] [.int x25, .int x13] 91 := by
            refine A_ior Γ dX1_yardsOf_91 ?_
            refine A_istore_n (lv' := [(3, .int (x13 ||| x25)), (0, .ref (xo X)), (2, .int x4), (4, .int x14)]) Γ dX1_yardsOf_92 (by decide) rfl ?_
            refine A_iinc (v := x14 + 1) (lv' := [(4, .int (x14 + 1)), (3, .int (x13 ||| x25)), (0, .ref (xo X)), (2, .int x4)]) Γ dX1_yardsOf_93 3 rfl rfl (by decide) rfl ?_
            refine A_goto (t := 50) Γ dX1_yardsOf_96 (by decide) ?_
            exact A_sub [2, 3, 1, 0] rfl (ihL11 _ _ _ (lpc3 eL11 hqL11))
          refine A_icmp_gt (t := 90) Γ dX1_yardsOf_80 (by decide) (fun c => ?_) (fun c => ?_)
          · replace eJ24 := it_t c eJ24
            refine A_iconst (v := 0) Γ dX1_yardsOf_90 (by decide) ?_
            obtain rfl := inj1 eJ24
            exact A_sub [0, 1, 3] rfl hJJ24
          · replace eJ24 := it_f c eJ24
            refine A_iconst (v := 1) Γ dX1_yardsOf_83 (by decide) ?_
            refine A_iload Γ dX1_yardsOf_84 3 rfl ?_
            refine A_ishl Γ dX1_yardsOf_86 ?_
            refine A_goto (t := 91) Γ dX1_yardsOf_87 (by decide) ?_
            obtain rfl := inj1 eJ24
            exact A_sub [0, 1, 3] rfl hJJ24
    exact A_sub [2, 3, 1, 0] rfl (hLL11 _ _ _ _ eLL11)
  replace eLL1 := lq2_ex eLL1
  obtain ⟨nL1, eLL1⟩ := eLL1
  have hLL1 : ∀ (nL1 : Nat) (x2 : Int32) (x3 : Int32), lpf2 (m_yardsOf_L1 σ a1) nL1 x2 x3 = some x4 → At G 5 σ [(0, .ref (xo X)), (1, .int a1), (2, .int x2), (3, .int x3)] [] 5 := by
    intro nL1
    induction nL1 with
    | zero => intro x2 x3 eL1; exact (lpf2_0 eL1).elim
    | succ nL1 ihL1 =>
      intro x2 x3 eL1
      replace eL1 := lpf2_s eL1
      obtain ⟨qL1, eL1, hqL1⟩ := eL1
      rw [m_yardsOf_L1] at eL1
      refine A_iload_n Γ dX1_yardsOf_5 3 rfl ?_
      refine A_aload_n Γ dX1_yardsOf_6 0 rfl ?_
      refine g1_34 Γ Ξ dX1_yardsOf_7 ?_
      refine A_icmp_ge (t := 45) Γ dX1_yardsOf_10 (by decide) (fun c => ?_) (fun c => ?_)
      · replace eL1 := it_t c eL1
        obtain rfl := pr1 (lpx2 eL1 hqL1)
        exact A_sub [0, 2] rfl hXL1
      · replace eL1 := it_f c eL1
        refine A_aload_n Γ dX1_yardsOf_13 0 rfl ?_
        refine g1_35 Γ Ξ dX1_yardsOf_14 ?_
        refine A_iload_n Γ dX1_yardsOf_17 3 rfl ?_
        replace eL1 := b1 eL1
        obtain ⟨v5, e6, eL1⟩ := eL1
        refine r1_35 Γ Ξ e6 dX1_yardsOf_18 ?_
        refine A_iload_n Γ dX1_yardsOf_19 1 rfl ?_
        replace eL1 := b1 eL1
        obtain ⟨x8, eJ7, eL1⟩ := eL1
        have hJJ7 : At G 5 σ [(0, .ref (xo X)), (1, .int a1), (3, .int x3)] [.int x8] 38 := by
          refine A_istore_n (lv' := [(2, .int x8), (0, .ref (xo X)), (1, .int a1), (3, .int x3)]) Γ dX1_yardsOf_38 (by decide) rfl ?_
          refine A_iinc (v := x3 + 1) (lv' := [(3, .int (x3 + 1)), (2, .int x8), (0, .ref (xo X)), (1, .int a1)]) Γ dX1_yardsOf_39 3 rfl rfl (by decide) rfl ?_
          refine A_goto (t := 5) Γ dX1_yardsOf_42 (by decide) ?_
          exact A_sub [2, 3, 1, 0] rfl (ihL1 _ _ (lpc2 eL1 hqL1))
        refine A_icmp_ne (t := 37) Γ dX1_yardsOf_20 (by decide) (fun c => ?_) (fun c => ?_)
        · replace eJ7 := it_f c eJ7
          refine A_iload_n Γ dX1_yardsOf_37 2 rfl ?_
          obtain rfl := inj1 eJ7
          exact A_sub [0, 1, 3] rfl hJJ7
        · replace eJ7 := it_t c eJ7
          refine A_aload_n Γ dX1_yardsOf_23 0 rfl ?_
          refine g1_36 Γ Ξ dX1_yardsOf_24 ?_
          refine A_iload_n Γ dX1_yardsOf_27 3 rfl ?_
          replace eJ7 := b1 eJ7
          obtain ⟨v9, e10, eJ7⟩ := eJ7
          refine r1_36 Γ Ξ e10 dX1_yardsOf_28 ?_
          refine A_iconst (v := 2) Γ dX1_yardsOf_29 (by decide) ?_
          refine A_icmp_ge (t := 37) Γ dX1_yardsOf_30 (by decide) (fun c => ?_) (fun c => ?_)
          · replace eJ7 := it_t c eJ7
            refine A_iload_n Γ dX1_yardsOf_37 2 rfl ?_
            obtain rfl := inj1 eJ7
            exact A_sub [0, 1, 3] rfl hJJ7
          · replace eJ7 := it_f c eJ7
            refine A_iload_n Γ dX1_yardsOf_33 3 rfl ?_
            refine A_goto (t := 38) Γ dX1_yardsOf_34 (by decide) ?_
            obtain rfl := inj1 eJ7
            exact A_sub [0, 1, 3] rfl hJJ7
  exact A_sub [2, 3, 1, 0] rfl (hLL1 _ _ _ eLL1)
theorem mtX1_yardsOf (l : Launch) (X : Xw) {σ σ' : St} {a1 : Int32} {r : Int32} (h : m_yardsOf σ a1 = some (r, σ')) : MetZ 1 l X yX1_yardsOf cX1_yardsOf 5 (some .int) 2 51 [.ref (xo X), .int a1] σ (some (.int r)) σ' := MetZ.ofAt (by decide) (Nat.le_of_ble_eq_true rfl) (fun G _ Γ Ξ hR hret => wkX1_yardsOf Γ Ξ hR h hret)
theorem kX1_X1yardsOf {G : Gx} {X : Xw} {cc : ByteArray} {nL pc F LO : Nat} {σ σ' : St} {lv : List (Nat × Value)} {st : List Value} (Γ : Ok G RX1 cc nL) (Ξ : OkX 1 G X) {a1 : Int32} {r : Int32} (hRm : Rm G F LO) (hf : 2 + 1 ≤ F) (hlo : 8 + (5 + 11) + 51 ≤ LO) (h : m_yardsOf σ a1 = some (r, σ')) (hW : (st.map fun v => v.category).sum ≤ 8) (d : decode cc pc = .ok (.invokevirtual 350, 3)) (kk : At G nL σ' lv (.int r :: st) (pc + 3)) : At G nL σ lv (.int a1 :: .ref (xo X) :: st) pc := A_callV Γ Ξ rfl rfl (mtX1_yardsOf (gl G) X h) (lw_V q1614 q1616 qs57 q64 q1617) (n := 1) (by decide +kernel) (rm_ok hRm hf hlo) (rm_k hRm) rfl rfl hW d kk
set_option maxHeartbeats 4000000 in
set_option maxRecDepth 100000 in
theorem wkX1_canBe {G : Gx} {X : Xw} {σ σ' : St} (Γ : Ok G RX1 cX1_canBe 2) (Ξ : OkX 1 G X) (hRm : Rm G 3 75) {a1 : Int32} {r : Int32} (h : m_canBe σ a1 = some (r, σ')) (hret : ∀ (pc : Nat) (lv : List (Nat × Value)), retIs cX1_canBe (some .int) (some (.int r)) pc → At G 2 σ' lv [.int r] pc) : At G 2 σ [(0, .ref (xo X)), (1, .int a1)] [] 0 := by
  rw [m_canBe] at h
  refine A_aload_n Γ dX1_canBe_0 0 rfl ?_
  refine A_iload_n Γ dX1_canBe_1 1 rfl ?_
  replace h := b1 h
  obtain ⟨v2, e1, h⟩ := h
  refine kX1_X1isTrailer Γ Ξ hRm (by decide) (by decide) e1 (Nat.le_of_ble_eq_true rfl) dX1_canBe_2 ?_
  replace h := b2 h
  obtain ⟨σ4, x5, eJ3, h⟩ := h
  have hJJ3 : At G 2 σ4 [] [.int x5] 31 := by
    obtain ⟨rfl, rfl⟩ := inj2 h
    exact hret _ _ dX1_canBe_31
  refine A_if_ne (t := 12) Γ dX1_canBe_5 (by decide) (fun c => ?_) (fun c => ?_)
  · replace eJ3 := it_f c eJ3
    refine A_aload_n Γ dX1_canBe_12 0 rfl ?_
    refine g1_20 Γ Ξ dX1_canBe_13 ?_
    refine A_iload_n Γ dX1_canBe_16 1 rfl ?_
    replace eJ3 := b1 eJ3
    obtain ⟨v6, e7, eJ3⟩ := eJ3
    refine r1_20 Γ Ξ e7 dX1_canBe_17 ?_
    refine A_if_eq (t := 29) Γ dX1_canBe_18 (by decide) (fun c => ?_) (fun c => ?_)
    · replace eJ3 := it_t c eJ3
      refine A_bipush (v := (-4)) Γ dX1_canBe_29 (by decide) ?_
      obtain ⟨rfl, rfl⟩ := inj2 eJ3
      exact A_sub [] rfl hJJ3
    · replace eJ3 := it_f c eJ3
      refine A_aload_n Γ dX1_canBe_21 0 rfl ?_
      refine A_iload_n Γ dX1_canBe_22 1 rfl ?_
      replace eJ3 := b2 eJ3
      obtain ⟨v9, σ10, e8, eJ3⟩ := eJ3
      refine kX1_X1yardsOf Γ Ξ hRm (by decide) (by decide) e8 (Nat.le_of_ble_eq_true rfl) dX1_canBe_23 ?_
      refine A_goto (t := 31) Γ dX1_canBe_26 (by decide) ?_
      obtain ⟨rfl, rfl⟩ := inj2 eJ3
      exact A_sub [] rfl hJJ3
  · replace eJ3 := it_t c eJ3
    refine A_iconst (v := (-1)) Γ dX1_canBe_8 (by decide) ?_
    refine A_goto (t := 31) Γ dX1_canBe_9 (by decide) ?_
    obtain ⟨rfl, rfl⟩ := inj2 eJ3
    exact A_sub [] rfl hJJ3
theorem mtX1_canBe (l : Launch) (X : Xw) {σ σ' : St} {a1 : Int32} {r : Int32} (h : m_canBe σ a1 = some (r, σ')) : MetZ 1 l X yX1_canBe cX1_canBe 2 (some .int) 3 75 [.ref (xo X), .int a1] σ (some (.int r)) σ' := MetZ.ofAt (by decide) (Nat.le_of_ble_eq_true rfl) (fun G _ Γ Ξ hR hret => wkX1_canBe Γ Ξ hR h hret)

set_option maxHeartbeats 4000000 in
set_option maxRecDepth 100000 in
theorem wkX1_nextOrder {G : Gx} {X : Xw} {σ σ' : St} (Γ : Ok G RX1 cX1_nextOrder 8) (Ξ : OkX 1 G X) (hRm : Rm G 0 0) {a1 : Int32} {r : Int32} (h : m_nextOrder σ a1 = some (r, σ')) (hret : ∀ (pc : Nat) (lv : List (Nat × Value)), retIs cX1_nextOrder (some .boolean) (some (.int r)) pc → At G 8 σ' lv [.int r] pc) : At G 8 σ [(0, .ref (xo X)), (1, .int a1)] [] 0 := by
  rw [m_nextOrder] at h
  refine A_iload_n Γ dX1_nextOrder_0 1 rfl ?_
  refine A_iconst (v := 2) Γ dX1_nextOrder_1 (by decide) ?_
  refine A_isub Γ dX1_nextOrder_2 ?_
  refine A_istore_n (lv' := [(2, .int (a1 - 2)), (0, .ref (xo X)), (1, .int a1)]) Γ dX1_nextOrder_3 (by decide) rfl ?_
  replace h := b1 h
  obtain ⟨x3, eLL1, h⟩ := h
  have hXL1 : At G 8 σ [(0, .ref (xo X)), (1, .int a1), (2, .int x3)] [] 31 := by
    refine A_iload_n Γ dX1_nextOrder_31 2 rfl ?_
    refine A_if_ge (t := 37) Γ dX1_nextOrder_32 (by decide) (fun c => ?_) (fun c => ?_)
    · replace h := it_t c h
      refine A_iload_n Γ dX1_nextOrder_37 1 rfl ?_
      refine A_iconst (v := 1) Γ dX1_nextOrder_38 (by decide) ?_
      refine A_isub Γ dX1_nextOrder_39 ?_
      refine A_istore_n (lv' := [(3, .int (a1 - 1)), (0, .ref (xo X)), (1, .int a1), (2, .int x3)]) Γ dX1_nextOrder_40 (by decide) rfl ?_
      replace h := b1 h
      obtain ⟨x10, eLL8, h⟩ := h
      have hXL8 : At G 8 σ [(0, .ref (xo X)), (1, .int a1), (2, .int x3), (3, .int x10)] [] 62 := by
        refine A_aload_n Γ dX1_nextOrder_62 0 rfl ?_
        refine g1_61 Γ Ξ dX1_nextOrder_63 ?_
        refine A_iload_n Γ dX1_nextOrder_66 2 rfl ?_
        replace h := b1 h
        obtain ⟨v15, e16, h⟩ := h
        refine r1_61 Γ Ξ e16 dX1_nextOrder_67 ?_
        refine A_istore (lv' := [(4, .int v15), (0, .ref (xo X)), (1, .int a1), (2, .int x3), (3, .int x10)]) Γ dX1_nextOrder_68 (by decide) rfl ?_
        refine A_aload_n Γ dX1_nextOrder_70 1 rfl ?_
        refine g1_61 Γ Ξ dX1_nextOrder_71 ?_
        refine A_iload_n Γ dX1_nextOrder_74 3 rfl ?_
        refine A_aload_n Γ dX1_nextOrder_75 1 rfl ?_
        refine g1_61 Γ Ξ dX1_nextOrder_76 ?_
        refine A_iload_n Γ dX1_nextOrder_79 4 rfl ?_
        replace h := b1 h
        obtain ⟨v17, e18, h⟩ := h
        refine r1_61 Γ Ξ e18 dX1_nextOrder_80 ?_
        replace h := b1 h
        obtain ⟨σ19, e20, h⟩ := h
        refine w1_61 Γ Ξ e20 dX1_nextOrder_81 ?_
        refine A_aload_n Γ dX1_nextOrder_82 1 rfl ?_
        refine g1_61 Γ Ξ dX1_nextOrder_83 ?_
        refine A_iload_n Γ dX1_nextOrder_86 4 rfl ?_
        refine A_iload Γ dX1_nextOrder_87 0 rfl ?_
        replace h := b1 h
        obtain ⟨σ21, e22, h⟩ := h
        refine w1_61 Γ Ξ e22 dX1_nextOrder_89 ?_
        refine A_iload_n Γ dX1_nextOrder_90 3 rfl ?_
        refine A_iconst (v := 1) Γ dX1_nextOrder_91 (by decide) ?_
        refine A_iadd Γ dX1_nextOrder_92 ?_
        refine A_istore (lv' := [(5, .int (x3 + 1)), (4, .int v15), (0, .ref (xo X)), (1, .int a1), (2, .int x3), (3, .int x10)]) Γ dX1_nextOrder_93 (by decide) rfl ?_
        refine A_iload_n Γ dX1_nextOrder_95 3 rfl ?_
        refine A_iconst (v := 1) Γ dX1_nextOrder_96 (by decide) ?_
        refine A_isub Γ dX1_nextOrder_97 ?_
        refine A_istore (lv' := [(6, .int (a1 - 1)), (5, .int (x3 + 1)), (4, .int v15), (0, .ref (xo X)), (1, .int a1), (2, .int x3), (3, .int x10)]) Γ dX1_nextOrder_98 (by decide) rfl ?_
        replace h := b1 h
        obtain ⟨σ27, eLL23, h⟩ := h
        have hXL23 : At G 8 σ27 [] [] 148 := by
          refine A_iconst (v := 1) Γ dX1_nextOrder_148 (by decide) ?_
          obtain ⟨rfl, rfl⟩ := inj2 h
          exact hret _ _ ⟨dX1_nextOrder_149, by decide⟩
        replace eLL23 := lq3_ex eLL23
        obtain ⟨nL23, eLL23⟩ := eLL23
        have hLL23 : ∀ (nL23 : Nat) (σ24 : St) (x25 : Int32) (x26 : Int32), lpf3 (m_nextOrder_L23) nL23 σ24 x25 x26 = some σ27 → At G 8 σ24 [(0, .ref (xo X)), (5, .int x25), (6, .int x26)] [] 100 := by
          intro nL23
          induction nL23 with
          | zero => intro σ24 x25 x26 eL23; exact (lpf3_0 eL23).elim
          | succ nL23 ihL23 =>
            intro σ24 x25 x26 eL23
            replace eL23 := lpf3_s eL23
            obtain ⟨qL23, eL23, hqL23⟩ := eL23
            rw [m_nextOrder_L23] at eL23
            refine A_iload Γ dX1_nextOrder_100 1 rfl ?_
            refine A_iload Γ dX1_nextOrder_102 2 rfl ?_
            refine A_icmp_ge (t := 148) Γ dX1_nextOrder_104 (by decide) (fun c => ?_) (fun c => ?_)
            · replace eL23 := it_t c eL23
              obtain rfl := pr1 (lpx3 eL23 hqL23)
              exact A_sub [] rfl hXL23
            · replace eL23 := it_f c eL23
              refine A_aload_n Γ dX1_nextOrder_107 0 rfl ?_
              refine g1_61 Γ Ξ dX1_nextOrder_108 ?_
              refine A_iload Γ dX1_nextOrder_111 1 rfl ?_
              replace eL23 := b1 eL23
              obtain ⟨v28, e29, eL23⟩ := eL23
              refine r1_61 Γ Ξ e29 dX1_nextOrder_113 ?_
              refine A_istore (lv' := [(7, .int v28), (0, .ref (xo X)), (5, .int x25), (6, .int x26)]) Γ dX1_nextOrder_114 (by decide) rfl ?_
              refine A_aload_n Γ dX1_nextOrder_116 1 rfl ?_
              refine g1_61 Γ Ξ dX1_nextOrder_117 ?_
              refine A_iload Γ dX1_nextOrder_120 2 rfl ?_
              refine A_aload_n Γ dX1_nextOrder_122 1 rfl ?_
              refine g1_61 Γ Ξ dX1_nextOrder_123 ?_
              refine A_iload Γ dX1_nextOrder_126 3 rfl ?_
              replace eL23 := b1 eL23
              obtain ⟨v30, e31, eL23⟩ := eL23
              refine r1_61 Γ Ξ e31 dX1_nextOrder_128 ?_
              replace eL23 := b1 eL23
              obtain ⟨σ32, e33, eL23⟩ := eL23
              refine w1_61 Γ Ξ e33 dX1_nextOrder_129 ?_
              refine A_aload_n Γ dX1_nextOrder_130 1 rfl ?_
              refine g1_61 Γ Ξ dX1_nextOrder_131 ?_
              refine A_iload Γ dX1_nextOrder_134 3 rfl ?_
              refine A_iload Γ dX1_nextOrder_136 0 rfl ?_
              replace eL23 := b1 eL23
              obtain ⟨σ34, e35, eL23⟩ := eL23
              refine w1_61 Γ Ξ e35 dX1_nextOrder_138 ?_
              refine A_iinc (v := x25 + 1) (lv' := [(5, .int (x25 + 1)), (7, .int v28), (0, .ref (xo X)), (6, .int x26)]) Γ dX1_nextOrder_139 2 rfl rfl (by decide) rfl ?_
              refine A_iinc (v := x26 + (-1)) (lv' := [(6, .int (x26 + (-1))), (5, .int (x25 + 1)), (7, .int v28), (0, .ref (xo X))]) Γ dX1_nextOrder_142 3 rfl rfl (by decide) rfl ?_
              refine A_goto (t := 100) Γ dX1_nextOrder_145 (by decide) ?_
              exact A_sub [3, 1, 0] rfl (ihL23 _ _ _ (lpc3 eL23 hqL23))
        exact A_sub [3, 1, 0] rfl (hLL23 _ _ _ _ eLL23)
      replace eLL8 := lq1_ex eLL8
      obtain ⟨nL8, eLL8⟩ := eLL8
      have hLL8 : ∀ (nL8 : Nat) (x9 : Int32), lpf1 (m_nextOrder_L8 σ x3) nL8 x9 = some x10 → At G 8 σ [(0, .ref (xo X)), (1, .int a1), (2, .int x3), (3, .int x9)] [] 41 := by
        intro nL8
        induction nL8 with
        | zero => intro x9 eL8; exact (lpf1_0 eL8).elim
        | succ nL8 ihL8 =>
          intro x9 eL8
          replace eL8 := lpf1_s eL8
          obtain ⟨qL8, eL8, hqL8⟩ := eL8
          rw [m_nextOrder_L8] at eL8
          refine A_aload_n Γ dX1_nextOrder_41 0 rfl ?_
          refine g1_61 Γ Ξ dX1_nextOrder_42 ?_
          refine A_iload_n Γ dX1_nextOrder_45 3 rfl ?_
          replace eL8 := b1 eL8
          obtain ⟨v11, e12, eL8⟩ := eL8
          refine r1_61 Γ Ξ e12 dX1_nextOrder_46 ?_
          refine A_aload_n Γ dX1_nextOrder_47 0 rfl ?_
          refine g1_61 Γ Ξ dX1_nextOrder_48 ?_
          refine A_iload_n Γ dX1_nextOrder_51 2 rfl ?_
          replace eL8 := b1 eL8
          obtain ⟨v13, e14, eL8⟩ := eL8
          refine r1_61 Γ Ξ e14 dX1_nextOrder_52 ?_
          refine A_icmp_ge (t := 62) Γ dX1_nextOrder_53 (by decide) (fun c => ?_) (fun c => ?_)
          · replace eL8 := it_t c eL8
            obtain rfl := pr1 (lpx1 eL8 hqL8)
            exact A_sub [0, 1, 2, 3] rfl hXL8
          · replace eL8 := it_f c eL8
            refine A_iinc (v := x9 + (-1)) (lv' := [(3, .int (x9 + (-1))), (0, .ref (xo X)), (1, .int a1), (2, .int x3)]) Γ dX1_nextOrder_56 3 rfl rfl (by decide) rfl ?_
            refine A_goto (t := 41) Γ dX1_nextOrder_59 (by decide) ?_
            exact A_sub [1, 2, 3, 0] rfl (ihL8 _ (lpc1 eL8 hqL8))
      exact A_sub [1, 2, 3, 0] rfl (hLL8 _ _ eLL8)
    · replace h := it_f c h
      refine A_iconst (v := 0) Γ dX1_nextOrder_35 (by decide) ?_
      obtain ⟨rfl, rfl⟩ := inj2 h
      exact hret _ _ ⟨dX1_nextOrder_36, by decide⟩
  replace eLL1 := lq1_ex eLL1
  obtain ⟨nL1, eLL1⟩ := eLL1
  have hLL1 : ∀ (nL1 : Nat) (x2 : Int32), lpf1 (m_nextOrder_L1 σ) nL1 x2 = some x3 → At G 8 σ [(0, .ref (xo X)), (1, .int a1), (2, .int x2)] [] 4 := by
    intro nL1
    induction nL1 with
    | zero => intro x2 eL1; exact (lpf1_0 eL1).elim
    | succ nL1 ihL1 =>
      intro x2 eL1
      replace eL1 := lpf1_s eL1
      obtain ⟨qL1, eL1, hqL1⟩ := eL1
      rw [m_nextOrder_L1] at eL1
      refine A_iload_n Γ dX1_nextOrder_4 2 rfl ?_
      refine A_if_lt (t := 31) Γ dX1_nextOrder_5 (by decide) (fun c => ?_) (fun c => ?_)
      · replace eL1 := it_t c eL1
        obtain rfl := pr1 (lpx1 eL1 hqL1)
        exact A_sub [0, 1, 2] rfl hXL1
      · replace eL1 := it_f c eL1
        refine A_aload_n Γ dX1_nextOrder_8 0 rfl ?_
        refine g1_61 Γ Ξ dX1_nextOrder_9 ?_
        refine A_iload_n Γ dX1_nextOrder_12 2 rfl ?_
        replace eL1 := b1 eL1
        obtain ⟨v4, e5, eL1⟩ := eL1
        refine r1_61 Γ Ξ e5 dX1_nextOrder_13 ?_
        refine A_aload_n Γ dX1_nextOrder_14 0 rfl ?_
        refine g1_61 Γ Ξ dX1_nextOrder_15 ?_
        refine A_iload_n Γ dX1_nextOrder_18 2 rfl ?_
        refine A_iconst (v := 1) Γ dX1_nextOrder_19 (by decide) ?_
        refine A_iadd Γ dX1_nextOrder_20 ?_
        replace eL1 := b1 eL1
        obtain ⟨v6, e7, eL1⟩ := eL1
        refine r1_61 Γ Ξ e7 dX1_nextOrder_21 ?_
        refine A_icmp_le (t := 31) Γ dX1_nextOrder_22 (by decide) (fun c => ?_) (fun c => ?_)
        · replace eL1 := it_t c eL1
          obtain rfl := pr1 (lpx1 eL1 hqL1)
          exact A_sub [0, 1, 2] rfl hXL1
        · replace eL1 := it_f c eL1
          refine A_iinc (v := x2 + (-1)) (lv' := [(2, .int (x2 + (-1))), (0, .ref (xo X)), (1, .int a1)]) Γ dX1_nextOrder_25 2 rfl rfl (by decide) rfl ?_
          refine A_goto (t := 4) Γ dX1_nextOrder_28 (by decide) ?_
          exact A_sub [1, 2, 0] rfl (ihL1 _ (lpc1 eL1 hqL1))
  exact A_sub [1, 2, 0] rfl (hLL1 _ _ eLL1)
theorem mtX1_nextOrder (l : Launch) (X : Xw) {σ σ' : St} {a1 : Int32} {r : Int32} (h : m_nextOrder σ a1 = some (r, σ')) : MetZ 1 l X yX1_nextOrder cX1_nextOrder 8 (some .boolean) 0 0 [.ref (xo X), .int a1] σ (some (.int r)) σ' := MetZ.ofAt (by decide) (Nat.le_of_ble_eq_true rfl) (fun G _ Γ Ξ hR hret => wkX1_nextOrder Γ Ξ hR h hret)
theorem kX1_X1nextOrder {G : Gx} {X : Xw} {cc : ByteArray} {nL pc F LO : Nat} {σ σ' : St} {lv : List (Nat × Value)} {st : List Value} (Γ : Ok G RX1 cc nL) (Ξ : OkX 1 G X) {a1 : Int32} {r : Int32} (hRm : Rm G F LO) (hf : 0 + 1 ≤ F) (hlo : 8 + (8 + 11) + 0 ≤ LO) (h : m_nextOrder σ a1 = some (r, σ')) (hW : (st.map fun v => v.category).sum ≤ 8) (d : decode cc pc = .ok (.invokevirtual 356, 3)) (kk : At G nL σ' lv (.int r :: st) (pc + 3)) : At G nL σ lv (.int a1 :: .ref (xo X) :: st) pc := A_callV Γ Ξ rfl rfl (mtX1_nextOrder (gl G) X h) (lw_V q1622 q1624 qs58 q64 q1625) (n := 1) (by decide +kernel) (rm_ok hRm hf hlo) (rm_k hRm) rfl rfl hW d kk
set_option maxHeartbeats 4000000 in
set_option maxRecDepth 100000 in
theorem wkX1_look {G : Gx} {X : Xw} {σ σ' : St} (Γ : Ok G RX1 cX1_look 14) (Ξ : OkX 1 G X) (hRm : Rm G 3 75) {a1 : Int32} {a2 : Int32} {a3 : Int32} {r : Int32} (h : m_look σ a1 a2 a3 = some (r, σ')) (hret : ∀ (pc : Nat) (lv : List (Nat × Value)), retIs cX1_look (some .int) (some (.int r)) pc → At G 14 σ' lv [.int r] pc) : At G 14 σ [(0, .ref (xo X)), (1, .int a1), (2, .int a2), (3, .int a3)] [] 0 := by
  rw [m_look] at h
  refine A_aload_n Γ dX1_look_0 0 rfl ?_
  refine A_iload_n Γ dX1_look_1 1 rfl ?_
  replace h := b1 h
  obtain ⟨v2, e1, h⟩ := h
  refine kX1_X1isTrailer Γ Ξ hRm (by decide) (by decide) e1 (Nat.le_of_ble_eq_true rfl) dX1_look_2 ?_
  refine A_if_eq (t := 22) Γ dX1_look_5 (by decide) (fun c => ?_) (fun c => ?_)
  · replace h := it_t c h
    refine A_iconst (v := (-1)) Γ dX1_look_22 (by decide) ?_
    obtain ⟨rfl, rfl⟩ := inj2 h
    exact hret _ _ dX1_look_23
  · replace h := it_f c h
    refine A_iload_n Γ dX1_look_8 2 rfl ?_
    replace h := b1 h
    obtain ⟨v4, e3, h⟩ := h
    refine kX1_X1isYard Γ (kpX Ξ) hRm (by decide) (by decide) e3 (Nat.le_of_ble_eq_true rfl) dX1_look_9 ?_
    refine A_if_eq (t := 22) Γ dX1_look_12 (by decide) (fun c => ?_) (fun c => ?_)
    · replace h := it_t c h
      refine A_iconst (v := (-1)) Γ dX1_look_22 (by decide) ?_
      obtain ⟨rfl, rfl⟩ := inj2 h
      exact hret _ _ dX1_look_23
    · replace h := it_f c h
      refine A_iload_n Γ dX1_look_15 3 rfl ?_
      replace h := b1 h
      obtain ⟨v6, e5, h⟩ := h
      refine kX1_X1isRow Γ (kpX Ξ) hRm (by decide) (by decide) e5 (Nat.le_of_ble_eq_true rfl) dX1_look_16 ?_
      refine A_if_ne (t := 24) Γ dX1_look_19 (by decide) (fun c => ?_) (fun c => ?_)
      · replace h := it_f c h
        refine A_aload_n Γ dX1_look_24 0 rfl ?_
        refine g1_20 Γ Ξ dX1_look_25 ?_
        refine A_iload_n Γ dX1_look_28 1 rfl ?_
        replace h := b1 h
        obtain ⟨v7, e8, h⟩ := h
        refine r1_20 Γ Ξ e8 dX1_look_29 ?_
        refine A_if_ne (t := 36) Γ dX1_look_30 (by decide) (fun c => ?_) (fun c => ?_)
        · replace h := it_f c h
          refine A_aload_n Γ dX1_look_36 0 rfl ?_
          refine g1_6 Γ Ξ dX1_look_37 ?_
          refine A_iload_n Γ dX1_look_40 3 rfl ?_
          replace h := b1 h
          obtain ⟨v9, e10, h⟩ := h
          refine r1_6 Γ Ξ e10 dX1_look_41 ?_
          refine A_if_ge (t := 51) Γ dX1_look_42 (by decide) (fun c => ?_) (fun c => ?_)
          · replace h := it_t c h
            refine A_aload_n Γ dX1_look_51 0 rfl ?_
            refine g1_6 Γ Ξ dX1_look_52 ?_
            refine A_iload_n Γ dX1_look_55 3 rfl ?_
            replace h := b1 h
            obtain ⟨v11, e12, h⟩ := h
            refine r1_6 Γ Ξ e12 dX1_look_56 ?_
            refine A_bipush (v := 8) Γ dX1_look_57 (by decide) ?_
            refine A_icmp_eq (t := 68) Γ dX1_look_59 (by decide) (fun c => ?_) (fun c => ?_)
            · replace h := it_t c h
              refine A_aload_n Γ dX1_look_68 0 rfl ?_
              refine A_iload_n Γ dX1_look_69 1 rfl ?_
              replace h := b2 h
              obtain ⟨v14, σ15, e13, h⟩ := h
              refine kX1_X1yardsOf Γ Ξ hRm (by decide) (by decide) e13 (Nat.le_of_ble_eq_true rfl) dX1_look_70 ?_
              refine A_istore (lv' := [(4, .int v14), (0, .ref (xo X)), (1, .int a1), (2, .int a2), (3, .int a3)]) Γ dX1_look_73 (by decide) rfl ?_
              refine A_iconst (v := 1) Γ dX1_look_75 (by decide) ?_
              refine A_istore (lv' := [(5, .int 1), (4, .int v14), (0, .ref (xo X)), (1, .int a1), (2, .int a2), (3, .int a3)]) Γ dX1_look_76 (by decide) rfl ?_
              refine A_iconst (v := 0) Γ dX1_look_78 (by decide) ?_
              refine A_istore (lv' := [(6, .int 0), (5, .int 1), (4, .int v14), (0, .ref (xo X)), (1, .int a1), (2, .int a2), (3, .int a3)]) Γ dX1_look_79 (by decide) rfl ?_
              refine A_iconst (v := 1) Γ dX1_look_81 (by decide) ?_
              refine A_istore (lv' := [(7, .int 1), (6, .int 0), (5, .int 1), (4, .int v14), (0, .ref (xo X)), (1, .int a1), (2, .int a2), (3, .int a3)]) Γ dX1_look_82 (by decide) rfl ?_
              refine A_iconst (v := 0) Γ dX1_look_84 (by decide) ?_
              refine A_istore (lv' := [(8, .int 0), (7, .int 1), (6, .int 0), (5, .int 1), (4, .int v14), (0, .ref (xo X)), (1, .int a1), (2, .int a2), (3, .int a3)]) Γ dX1_look_85 (by decide) rfl ?_
              replace h := b4 h
              obtain ⟨σ22, x23, x24, x25, eLL16, h⟩ := h
              have hXL16 : At G 14 σ22 [(0, .ref (xo X)), (2, .int a2), (3, .int a3), (5, .int x23), (6, .int x24), (7, .int x25)] [] 200 := by
                refine A_iload Γ dX1_look_200 3 rfl ?_
                refine A_if_ne (t := 211) Γ dX1_look_202 (by decide) (fun c => ?_) (fun c => ?_)
                · replace h := it_f c h
                  refine A_iload Γ dX1_look_211 4 rfl ?_
                  refine A_bipush (v := 6) Γ dX1_look_213 (by decide) ?_
                  refine A_icmp_le (t := 221) Γ dX1_look_215 (by decide) (fun c => ?_) (fun c => ?_)
                  · replace h := it_t c h
                    refine A_iload Γ dX1_look_221 5 rfl ?_
                    refine A_if_ne (t := 232) Γ dX1_look_223 (by decide) (fun c => ?_) (fun c => ?_)
                    · replace h := it_f c h
                      refine A_iconst (v := 0) Γ dX1_look_232 (by decide) ?_
                      refine A_istore (lv' := [(8, .int 0), (0, .ref (xo X)), (2, .int a2), (3, .int a3), (5, .int x23), (6, .int x24), (7, .int x25)]) Γ dX1_look_233 (by decide) rfl ?_
                      replace h := b1 h
                      obtain ⟨σ49, eLL46, h⟩ := h
                      have hXL46 : At G 14 σ49 [(0, .ref (xo X)), (2, .int a2), (3, .int a3), (6, .int x24)] [] 257 := by
                        refine A_aload_n Γ dX1_look_257 0 rfl ?_
                        refine A_bipush (v := (-9)) Γ dX1_look_258 (by decide) ?_
                        refine p1_62 Γ Ξ dX1_look_260 ?_
                        refine A_iconst (v := 1) Γ dX1_look_263 (by decide) ?_
                        refine A_istore (lv' := [(8, .int 1), (0, .ref (xo X)), (2, .int a2), (3, .int a3), (6, .int x24)]) Γ dX1_look_264 (by decide) rfl ?_
                        replace h := b1 h
                        obtain ⟨σ55, eLL52, h⟩ := h
                        have hXL52 : At G 14 σ55 [(0, .ref (xo X)), (6, .int x24)] [] 422 := by
                          refine A_aload_n Γ dX1_look_422 0 rfl ?_
                          refine A_iload Γ dX1_look_423 1 rfl ?_
                          refine p1_58 Γ Ξ dX1_look_425 ?_
                          refine A_aload_n Γ dX1_look_428 0 rfl ?_
                          refine A_aload_n Γ dX1_look_429 0 rfl ?_
                          refine g1_62 Γ Ξ dX1_look_430 ?_
                          refine A_iload Γ dX1_look_433 1 rfl ?_
                          replace h := b2 h
                          obtain ⟨v99, σ100, e98, h⟩ := h
                          refine kX1_X1ask Γ Ξ hRm (by decide) (by decide) e98 (Nat.le_of_ble_eq_true rfl) dX1_look_435 ?_
                          obtain ⟨rfl, rfl⟩ := inj2 h
                          exact hret _ _ dX1_look_438
                        replace eLL52 := lq2_ex eLL52
                        obtain ⟨nL52, eLL52⟩ := eLL52
                        have hLL52 : ∀ (nL52 : Nat) (σ53 : St) (x54 : Int32), lpf2 (m_look_L52 a2 a3 x24) nL52 σ53 x54 = some σ55 → At G 14 σ53 [(0, .ref (xo X)), (2, .int a2), (3, .int a3), (6, .int x24), (8, .int x54)] [] 266 := by
                          intro nL52
                          induction nL52 with
                          | zero => intro σ53 x54 eL52; exact (lpf2_0 eL52).elim
                          | succ nL52 ihL52 =>
                            intro σ53 x54 eL52
                            replace eL52 := lpf2_s eL52
                            obtain ⟨qL52, eL52, hqL52⟩ := eL52
                            rw [m_look_L52] at eL52
                            refine A_iload Γ dX1_look_266 4 rfl ?_
                            refine A_if_eq (t := 422) Γ dX1_look_268 (by decide) (fun c => ?_) (fun c => ?_)
                            · replace eL52 := it_t c eL52
                              obtain rfl := pr1 (lpx2 eL52 hqL52)
                              exact A_sub [0, 3] rfl hXL52
                            · replace eL52 := it_f c eL52
                              refine A_iconst (v := 0) Γ dX1_look_271 (by decide) ?_
                              refine A_istore (lv' := [(9, .int 0), (0, .ref (xo X)), (2, .int a2), (3, .int a3), (6, .int x24), (8, .int x54)]) Γ dX1_look_272 (by decide) rfl ?_
                              refine A_iload_n Γ dX1_look_274 2 rfl ?_
                              refine A_istore (lv' := [(10, .int a2), (9, .int 0), (0, .ref (xo X)), (2, .int a2), (3, .int a3), (6, .int x24), (8, .int x54)]) Γ dX1_look_275 (by decide) rfl ?_
                              refine A_aload_n Γ dX1_look_277 2 rfl ?_
                              refine g1_5 Γ Ξ dX1_look_278 ?_
                              refine A_istore (lv' := [(11, .int (cI σ53 5)), (10, .int a2), (9, .int 0), (0, .ref (xo X)), (2, .int a2), (3, .int a3), (6, .int x24), (8, .int x54)]) Γ dX1_look_281 (by decide) rfl ?_
                              refine A_iconst (v := 0) Γ dX1_look_283 (by decide) ?_
                              refine A_istore (lv' := [(12, .int 0), (11, .int (cI σ53 5)), (10, .int a2), (9, .int 0), (0, .ref (xo X)), (2, .int a2), (3, .int a3), (6, .int x24), (8, .int x54)]) Γ dX1_look_284 (by decide) rfl ?_
                              replace eL52 := b2 eL52
                              obtain ⟨σ62, x63, eLL56, eL52⟩ := eL52
                              have hXL56 : At G 14 σ62 [(0, .ref (xo X)), (2, .int a2), (3, .int a3), (6, .int x24), (9, .int x63)] [] 354 := by
                                refine A_aload_n Γ dX1_look_354 0 rfl ?_
                                refine g1_62 Γ Ξ dX1_look_355 ?_
                                replace eL52 := b1 eL52
                                obtain ⟨σ74, eJ73, eL52⟩ := eL52
                                have hJJ73 : At G 14 σ74 [(0, .ref (xo X)), (2, .int a2), (3, .int a3), (6, .int x24)] [] 411 := by
                                  refine A_aload_n Γ dX1_look_411 0 rfl ?_
                                  refine A_iload Γ dX1_look_412 3 rfl ?_
                                  replace eL52 := b2 eL52
                                  obtain ⟨v96, σ97, e95, eL52⟩ := eL52
                                  refine kX1_X1nextOrder Γ Ξ hRm (by decide) (by decide) e95 (Nat.le_of_ble_eq_true rfl) dX1_look_414 ?_
                                  refine A_istore (lv' := [(8, .int v96), (0, .ref (xo X)), (2, .int a2), (3, .int a3), (6, .int x24)]) Γ dX1_look_417 (by decide) rfl ?_
                                  refine A_goto (t := 266) Γ dX1_look_419 (by decide) ?_
                                  exact A_sub [1, 2, 3, 4, 0] rfl (ihL52 _ _ (lpc2 eL52 hqL52))
                                refine A_if_lt (t := 370) Γ dX1_look_358 (by decide) (fun c => ?_) (fun c => ?_)
                                · replace eJ73 := it_t c eJ73
                                  refine A_aload_n Γ dX1_look_370 0 rfl ?_
                                  refine A_iload Γ dX1_look_371 4 rfl ?_
                                  refine p1_62 Γ Ξ dX1_look_373 ?_
                                  refine A_iconst (v := 0) Γ dX1_look_376 (by decide) ?_
                                  refine A_istore (lv' := [(12, .int 0), (0, .ref (xo X)), (2, .int a2), (3, .int a3), (6, .int x24), (9, .int x63)]) Γ dX1_look_377 (by decide) rfl ?_
                                  replace eJ73 := b1 eJ73
                                  obtain ⟨σ78, eLL75, eJ73⟩ := eJ73
                                  have hXL75 : At G 14 σ78 [(0, .ref (xo X)), (2, .int a2), (3, .int a3), (6, .int x24)] [] 411 := by
                                    obtain rfl := inj1 eJ73
                                    exact A_sub [0, 1, 2, 3] rfl hJJ73
                                  replace eLL75 := lq2_ex eLL75
                                  obtain ⟨nL75, eLL75⟩ := eLL75
                                  have hLL75 : ∀ (nL75 : Nat) (σ76 : St) (x77 : Int32), lpf2 (m_look_L75 x24) nL75 σ76 x77 = some σ78 → At G 14 σ76 [(0, .ref (xo X)), (2, .int a2), (3, .int a3), (6, .int x24), (12, .int x77)] [] 379 := by
                                    intro nL75
                                    induction nL75 with
                                    | zero => intro σ76 x77 eL75; exact (lpf2_0 eL75).elim
                                    | succ nL75 ihL75 =>
                                      intro σ76 x77 eL75
                                      replace eL75 := lpf2_s eL75
                                      obtain ⟨qL75, eL75, hqL75⟩ := eL75
                                      rw [m_look_L75] at eL75
                                      refine A_iload Γ dX1_look_379 4 rfl ?_
                                      refine A_iload Γ dX1_look_381 3 rfl ?_
                                      refine A_icmp_ge (t := 411) Γ dX1_look_383 (by decide) (fun c => ?_) (fun c => ?_)
                                      · replace eL75 := it_t c eL75
                                        obtain rfl := pr1 (lpx2 eL75 hqL75)
                                        exact A_sub [0, 1, 2, 3] rfl hXL75
                                      · replace eL75 := it_f c eL75
                                        refine A_aload_n Γ dX1_look_386 0 rfl ?_
                                        refine g1_59 Γ Ξ dX1_look_387 ?_
                                        refine A_iload Γ dX1_look_390 4 rfl ?_
                                        refine A_aload_n Γ dX1_look_392 0 rfl ?_
                                        refine g1_60 Γ Ξ dX1_look_393 ?_
                                        refine A_aload_n Γ dX1_look_396 0 rfl ?_
                                        refine g1_61 Γ Ξ dX1_look_397 ?_
                                        refine A_iload Γ dX1_look_400 4 rfl ?_
                                        replace eL75 := b1 eL75
                                        obtain ⟨v79, e80, eL75⟩ := eL75
                                        refine r1_61 Γ Ξ e80 dX1_look_402 ?_
                                        replace eL75 := b1 eL75
                                        obtain ⟨v81, e82, eL75⟩ := eL75
                                        refine r1_60 Γ Ξ e82 dX1_look_403 ?_
                                        replace eL75 := b1 eL75
                                        obtain ⟨σ83, e84, eL75⟩ := eL75
                                        refine w1_59 Γ Ξ e84 dX1_look_404 ?_
                                        refine A_iinc (v := x77 + 1) (lv' := [(12, .int (x77 + 1)), (0, .ref (xo X)), (2, .int a2), (3, .int a3), (6, .int x24)]) Γ dX1_look_405 4 rfl rfl (by decide) rfl ?_
                                        refine A_goto (t := 379) Γ dX1_look_408 (by decide) ?_
                                        exact A_sub [1, 2, 3, 4, 0] rfl (ihL75 _ _ (lpc2 eL75 hqL75))
                                  exact A_sub [1, 2, 3, 4, 0] rfl (hLL75 _ _ _ eLL75)
                                · replace eJ73 := it_f c eJ73
                                  refine A_iload Γ dX1_look_361 4 rfl ?_
                                  refine A_aload_n Γ dX1_look_363 0 rfl ?_
                                  refine g1_62 Γ Ξ dX1_look_364 ?_
                                  refine A_icmp_ge (t := 411) Γ dX1_look_367 (by decide) (fun c => ?_) (fun c => ?_)
                                  · replace eJ73 := it_t c eJ73
                                    obtain rfl := inj1 eJ73
                                    exact A_sub [0, 1, 2, 3] rfl hJJ73
                                  · replace eJ73 := it_f c eJ73
                                    refine A_aload_n Γ dX1_look_370 0 rfl ?_
                                    refine A_iload Γ dX1_look_371 4 rfl ?_
                                    refine p1_62 Γ Ξ dX1_look_373 ?_
                                    refine A_iconst (v := 0) Γ dX1_look_376 (by decide) ?_
                                    refine A_istore (lv' := [(12, .int 0), (0, .ref (xo X)), (2, .int a2), (3, .int a3), (6, .int x24), (9, .int x63)]) Γ dX1_look_377 (by decide) rfl ?_
                                    replace eJ73 := b1 eJ73
                                    obtain ⟨σ88, eLL85, eJ73⟩ := eJ73
                                    have hXL85 : At G 14 σ88 [(0, .ref (xo X)), (2, .int a2), (3, .int a3), (6, .int x24)] [] 411 := by
                                      obtain rfl := inj1 eJ73
                                      exact A_sub [0, 1, 2, 3] rfl hJJ73
                                    replace eLL85 := lq2_ex eLL85
                                    obtain ⟨nL85, eLL85⟩ := eLL85
                                    have hLL85 : ∀ (nL85 : Nat) (σ86 : St) (x87 : Int32), lpf2 (m_look_L85 x24) nL85 σ86 x87 = some σ88 → At G 14 σ86 [(0, .ref (xo X)), (2, .int a2), (3, .int a3), (6, .int x24), (12, .int x87)] [] 379 := by
                                      intro nL85
                                      induction nL85 with
                                      | zero => intro σ86 x87 eL85; exact (lpf2_0 eL85).elim
                                      | succ nL85 ihL85 =>
                                        intro σ86 x87 eL85
                                        replace eL85 := lpf2_s eL85
                                        obtain ⟨qL85, eL85, hqL85⟩ := eL85
                                        rw [m_look_L85] at eL85
                                        refine A_iload Γ dX1_look_379 4 rfl ?_
                                        refine A_iload Γ dX1_look_381 3 rfl ?_
                                        refine A_icmp_ge (t := 411) Γ dX1_look_383 (by decide) (fun c => ?_) (fun c => ?_)
                                        · replace eL85 := it_t c eL85
                                          obtain rfl := pr1 (lpx2 eL85 hqL85)
                                          exact A_sub [0, 1, 2, 3] rfl hXL85
                                        · replace eL85 := it_f c eL85
                                          refine A_aload_n Γ dX1_look_386 0 rfl ?_
                                          refine g1_59 Γ Ξ dX1_look_387 ?_
                                          refine A_iload Γ dX1_look_390 4 rfl ?_
                                          refine A_aload_n Γ dX1_look_392 0 rfl ?_
                                          refine g1_60 Γ Ξ dX1_look_393 ?_
                                          refine A_aload_n Γ dX1_look_396 0 rfl ?_
                                          refine g1_61 Γ Ξ dX1_look_397 ?_
                                          refine A_iload Γ dX1_look_400 4 rfl ?_
                                          replace eL85 := b1 eL85
                                          obtain ⟨v89, e90, eL85⟩ := eL85
                                          refine r1_61 Γ Ξ e90 dX1_look_402 ?_
                                          replace eL85 := b1 eL85
                                          obtain ⟨v91, e92, eL85⟩ := eL85
                                          refine r1_60 Γ Ξ e92 dX1_look_403 ?_
                                          replace eL85 := b1 eL85
                                          obtain ⟨σ93, e94, eL85⟩ := eL85
                                          refine w1_59 Γ Ξ e94 dX1_look_404 ?_
                                          refine A_iinc (v := x87 + 1) (lv' := [(12, .int (x87 + 1)), (0, .ref (xo X)), (2, .int a2), (3, .int a3), (6, .int x24)]) Γ dX1_look_405 4 rfl rfl (by decide) rfl ?_
                                          refine A_goto (t := 379) Γ dX1_look_408 (by decide) ?_
                                          exact A_sub [1, 2, 3, 4, 0] rfl (ihL85 _ _ (lpc2 eL85 hqL85))
                                    exact A_sub [1, 2, 3, 4, 0] rfl (hLL85 _ _ _ eLL85)
                              replace eLL56 := lq5_ex eLL56
                              obtain ⟨nL56, eLL56⟩ := eLL56
                              have hLL56 : ∀ (nL56 : Nat) (σ57 : St) (x58 : Int32) (x59 : Int32) (x60 : Int32) (x61 : Int32), lpf5 (m_look_L56 a3 x24) nL56 σ57 x58 x59 x60 x61 = some (σ62, x63) → At G 14 σ57 [(0, .ref (xo X)), (2, .int a2), (3, .int a3), (6, .int x24), (9, .int x58), (10, .int x59), (11, .int x60), (12, .int x61)] [] 286 := by
                                intro nL56
                                induction nL56 with
                                | zero => intro σ57 x58 x59 x60 x61 eL56; exact (lpf5_0 eL56).elim
                                | succ nL56 ihL56 =>
                                  intro σ57 x58 x59 x60 x61 eL56
                                  replace eL56 := lpf5_s eL56
                                  obtain ⟨qL56, eL56, hqL56⟩ := eL56
                                  rw [m_look_L56] at eL56
                                  refine A_iload Γ dX1_look_286 7 rfl ?_
                                  refine A_iload Γ dX1_look_288 3 rfl ?_
                                  refine A_icmp_ge (t := 354) Γ dX1_look_290 (by decide) (fun c => ?_) (fun c => ?_)
                                  · replace eL56 := it_t c eL56
                                    obtain ⟨rfl, rfl⟩ := pr2 (lpx5 eL56 hqL56)
                                    exact A_sub [0, 1, 2, 3, 4] rfl hXL56
                                  · replace eL56 := it_f c eL56
                                    refine A_aload_n Γ dX1_look_293 0 rfl ?_
                                    refine g1_60 Γ Ξ dX1_look_294 ?_
                                    refine A_aload_n Γ dX1_look_297 0 rfl ?_
                                    refine g1_61 Γ Ξ dX1_look_298 ?_
                                    refine A_iload Γ dX1_look_301 7 rfl ?_
                                    replace eL56 := b1 eL56
                                    obtain ⟨v64, e65, eL56⟩ := eL56
                                    refine r1_61 Γ Ξ e65 dX1_look_303 ?_
                                    replace eL56 := b1 eL56
                                    obtain ⟨v66, e67, eL56⟩ := eL56
                                    refine r1_60 Γ Ξ e67 dX1_look_304 ?_
                                    refine A_istore (lv' := [(13, .int v66), (0, .ref (xo X)), (2, .int a2), (3, .int a3), (6, .int x24), (9, .int x58), (10, .int x59), (11, .int x60), (12, .int x61)]) Γ dX1_look_305 (by decide) rfl ?_
                                    refine A_aload_n Γ dX1_look_307 1 rfl ?_
                                    refine A_iload Γ dX1_look_308 6 rfl ?_
                                    refine A_iload Γ dX1_look_310 7 rfl ?_
                                    refine A_iload Γ dX1_look_312 0 rfl ?_
                                    replace eL56 := b2 eL56
                                    obtain ⟨v69, σ70, e68, eL56⟩ := eL56
                                    refine kX1_X1comesTo Γ Ξ hRm (by decide) (by decide) e68 (Nat.le_of_ble_eq_true rfl) dX1_look_314 ?_
                                    refine A_istore (lv' := [(11, .int v69), (13, .int v66), (0, .ref (xo X)), (2, .int a2), (3, .int a3), (6, .int x24), (9, .int x58), (10, .int x59), (12, .int x61)]) Γ dX1_look_317 (by decide) rfl ?_
                                    refine A_iload Γ dX1_look_319 1 rfl ?_
                                    refine A_istore (lv' := [(10, .int v66), (11, .int v69), (13, .int v66), (0, .ref (xo X)), (2, .int a2), (3, .int a3), (6, .int x24), (9, .int x58), (12, .int x61)]) Γ dX1_look_321 (by decide) rfl ?_
                                    refine A_iload Γ dX1_look_323 7 rfl ?_
                                    refine A_aload_n Γ dX1_look_325 3 rfl ?_
                                    refine g1_7 Γ Ξ dX1_look_326 ?_
                                    refine A_bipush (v := 40) Γ dX1_look_329 (by decide) ?_
                                    refine A_iload_n Γ dX1_look_331 5 rfl ?_
                                    refine A_imul Γ dX1_look_332 ?_
                                    refine A_iload Γ dX1_look_333 2 rfl ?_
                                    refine A_iadd Γ dX1_look_335 ?_
                                    replace eL56 := b1 eL56
                                    obtain ⟨v71, e72, eL56⟩ := eL56
                                    refine r1_7 Γ Ξ e72 dX1_look_336 ?_
                                    refine A_iload Γ dX1_look_337 1 rfl ?_
                                    refine A_aload_n Γ dX1_look_339 3 rfl ?_
                                    refine g1_5 Γ Ξ dX1_look_340 ?_
                                    refine A_isub Γ dX1_look_343 ?_
                                    refine A_imul Γ dX1_look_344 ?_
                                    refine A_iadd Γ dX1_look_345 ?_
                                    refine A_istore (lv' := [(9, .int (x58 + (v71 * (v69 - (cI σ70 5))))), (10, .int v66), (11, .int v69), (13, .int v66), (0, .ref (xo X)), (2, .int a2), (3, .int a3), (6, .int x24), (12, .int x61)]) Γ dX1_look_346 (by decide) rfl ?_
                                    refine A_iinc (v := x61 + 1) (lv' := [(12, .int (x61 + 1)), (9, .int (x58 + (v71 * (v69 - (cI σ70 5))))), (10, .int v66), (11, .int v69), (13, .int v66), (0, .ref (xo X)), (2, .int a2), (3, .int a3), (6, .int x24)]) Γ dX1_look_348 8 rfl rfl (by decide) rfl ?_
                                    refine A_goto (t := 286) Γ dX1_look_351 (by decide) ?_
                                    exact A_sub [5, 6, 7, 8, 1, 2, 3, 0] rfl (ihL56 _ _ _ _ _ (lpc5 eL56 hqL56))
                              exact A_sub [4, 5, 6, 7, 3, 2, 1, 0] rfl (hLL56 _ _ _ _ _ _ eLL56)
                        exact A_sub [1, 2, 3, 4, 0] rfl (hLL52 _ _ _ eLL52)
                      replace eLL46 := lq2_ex eLL46
                      obtain ⟨nL46, eLL46⟩ := eLL46
                      have hLL46 : ∀ (nL46 : Nat) (σ47 : St) (x48 : Int32), lpf2 (m_look_L46 x24) nL46 σ47 x48 = some σ49 → At G 14 σ47 [(0, .ref (xo X)), (2, .int a2), (3, .int a3), (6, .int x24), (8, .int x48)] [] 235 := by
                        intro nL46
                        induction nL46 with
                        | zero => intro σ47 x48 eL46; exact (lpf2_0 eL46).elim
                        | succ nL46 ihL46 =>
                          intro σ47 x48 eL46
                          replace eL46 := lpf2_s eL46
                          obtain ⟨qL46, eL46, hqL46⟩ := eL46
                          rw [m_look_L46] at eL46
                          refine A_iload Γ dX1_look_235 4 rfl ?_
                          refine A_iload Γ dX1_look_237 3 rfl ?_
                          refine A_icmp_ge (t := 257) Γ dX1_look_239 (by decide) (fun c => ?_) (fun c => ?_)
                          · replace eL46 := it_t c eL46
                            obtain rfl := pr1 (lpx2 eL46 hqL46)
                            exact A_sub [0, 1, 2, 3] rfl hXL46
                          · replace eL46 := it_f c eL46
                            refine A_aload_n Γ dX1_look_242 0 rfl ?_
                            refine g1_61 Γ Ξ dX1_look_243 ?_
                            refine A_iload Γ dX1_look_246 4 rfl ?_
                            refine A_iload Γ dX1_look_248 4 rfl ?_
                            replace eL46 := b1 eL46
                            obtain ⟨σ50, e51, eL46⟩ := eL46
                            refine w1_61 Γ Ξ e51 dX1_look_250 ?_
                            refine A_iinc (v := x48 + 1) (lv' := [(8, .int (x48 + 1)), (0, .ref (xo X)), (2, .int a2), (3, .int a3), (6, .int x24)]) Γ dX1_look_251 4 rfl rfl (by decide) rfl ?_
                            refine A_goto (t := 235) Γ dX1_look_254 (by decide) ?_
                            exact A_sub [1, 2, 3, 4, 0] rfl (ihL46 _ _ (lpc2 eL46 hqL46))
                      exact A_sub [1, 2, 3, 5, 0] rfl (hLL46 _ _ _ eLL46)
                    · replace h := it_t c h
                      refine A_aload_n Γ dX1_look_226 0 rfl ?_
                      refine A_iconst (v := 1) Γ dX1_look_227 (by decide) ?_
                      replace h := b2 h
                      obtain ⟨v102, σ103, e101, h⟩ := h
                      refine kX1_X1meets Γ Ξ hRm (by decide) (by decide) e101 (Nat.le_of_ble_eq_true rfl) dX1_look_228 ?_
                      obtain ⟨rfl, rfl⟩ := inj2 h
                      exact hret _ _ dX1_look_231
                  · replace h := it_f c h
                    refine A_bipush (v := (-2)) Γ dX1_look_218 (by decide) ?_
                    obtain ⟨rfl, rfl⟩ := inj2 h
                    exact hret _ _ dX1_look_220
                · replace h := it_t c h
                  refine A_aload_n Γ dX1_look_205 0 rfl ?_
                  refine A_iconst (v := 3) Γ dX1_look_206 (by decide) ?_
                  replace h := b2 h
                  obtain ⟨v105, σ106, e104, h⟩ := h
                  refine kX1_X1meets Γ Ξ hRm (by decide) (by decide) e104 (Nat.le_of_ble_eq_true rfl) dX1_look_207 ?_
                  obtain ⟨rfl, rfl⟩ := inj2 h
                  exact hret _ _ dX1_look_210
              replace eLL16 := lq5_ex eLL16
              obtain ⟨nL16, eLL16⟩ := eLL16
              have hLL16 : ∀ (nL16 : Nat) (σ17 : St) (x18 : Int32) (x19 : Int32) (x20 : Int32) (x21 : Int32), lpf5 (m_look_L16 a2 a3 v14) nL16 σ17 x18 x19 x20 x21 = some (σ22, x23, x24, x25) → At G 14 σ17 [(0, .ref (xo X)), (2, .int a2), (3, .int a3), (4, .int v14), (5, .int x18), (6, .int x19), (7, .int x20), (8, .int x21)] [] 87 := by
                intro nL16
                induction nL16 with
                | zero => intro σ17 x18 x19 x20 x21 eL16; exact (lpf5_0 eL16).elim
                | succ nL16 ihL16 =>
                  intro σ17 x18 x19 x20 x21 eL16
                  replace eL16 := lpf5_s eL16
                  obtain ⟨qL16, eL16, hqL16⟩ := eL16
                  rw [m_look_L16] at eL16
                  refine A_iload Γ dX1_look_87 7 rfl ?_
                  refine A_bipush (v := 8) Γ dX1_look_89 (by decide) ?_
                  refine A_icmp_ge (t := 200) Γ dX1_look_91 (by decide) (fun c => ?_) (fun c => ?_)
                  · replace eL16 := it_t c eL16
                    obtain ⟨rfl, rfl, rfl, rfl⟩ := pr4 (lpx5 eL16 hqL16)
                    exact A_sub [0, 1, 2, 4, 5, 6] rfl hXL16
                  · replace eL16 := it_f c eL16
                    refine A_aload_n Γ dX1_look_94 0 rfl ?_
                    refine g1_7 Γ Ξ dX1_look_95 ?_
                    refine A_bipush (v := 40) Γ dX1_look_98 (by decide) ?_
                    refine A_iload_n Γ dX1_look_100 2 rfl ?_
                    refine A_imul Γ dX1_look_101 ?_
                    refine A_iload Γ dX1_look_102 7 rfl ?_
                    refine A_iadd Γ dX1_look_104 ?_
                    replace eL16 := b1 eL16
                    obtain ⟨v26, e27, eL16⟩ := eL16
                    refine r1_7 Γ Ξ e27 dX1_look_105 ?_
                    refine A_istore (lv' := [(9, .int v26), (0, .ref (xo X)), (2, .int a2), (3, .int a3), (4, .int v14), (5, .int x18), (6, .int x19), (7, .int x20), (8, .int x21)]) Γ dX1_look_106 (by decide) rfl ?_
                    refine A_iload Γ dX1_look_108 5 rfl ?_
                    replace eL16 := b1 eL16
                    obtain ⟨x29, eJ28, eL16⟩ := eL16
                    have hJJ28 : At G 14 σ17 [(0, .ref (xo X)), (2, .int a2), (3, .int a3), (4, .int v14), (6, .int x19), (7, .int x20), (8, .int x21), (9, .int v26)] [.int x29] 129 := by
                      refine A_istore (lv' := [(5, .int x29), (0, .ref (xo X)), (2, .int a2), (3, .int a3), (4, .int v14), (6, .int x19), (7, .int x20), (8, .int x21), (9, .int v26)]) Γ dX1_look_129 (by decide) rfl ?_
                      refine A_iload Γ dX1_look_131 8 rfl ?_
                      replace eL16 := b3 eL16
                      obtain ⟨σ33, x34, x35, eJ32, eL16⟩ := eL16
                      have hJJ32 : At G 14 σ33 [(0, .ref (xo X)), (2, .int a2), (3, .int a3), (4, .int v14), (5, .int x29), (6, .int x34), (7, .int x35), (8, .int x21)] [] 194 := by
                        refine A_iinc (v := x21 + 1) (lv' := [(8, .int (x21 + 1)), (0, .ref (xo X)), (2, .int a2), (3, .int a3), (4, .int v14), (5, .int x29), (6, .int x34), (7, .int x35)]) Γ dX1_look_194 7 rfl rfl (by decide) rfl ?_
                        refine A_goto (t := 87) Γ dX1_look_197 (by decide) ?_
                        exact A_sub [1, 2, 3, 4, 5, 6, 7, 0] rfl (ihL16 _ _ _ _ _ (lpc5 eL16 hqL16))
                      refine A_if_le (t := 194) Γ dX1_look_133 (by decide) (fun c => ?_) (fun c => ?_)
                      · replace eJ32 := it_t c eJ32
                        obtain ⟨rfl, rfl, rfl⟩ := inj3 eJ32
                        exact A_sub [1, 2, 3, 4, 0, 5, 6, 7] rfl hJJ32
                      · replace eJ32 := it_f c eJ32
                        refine A_iload Γ dX1_look_136 4 rfl ?_
                        refine A_iload Γ dX1_look_138 7 rfl ?_
                        refine A_ishr Γ dX1_look_140 ?_
                        refine A_iconst (v := 1) Γ dX1_look_141 (by decide) ?_
                        refine A_iand Γ dX1_look_142 ?_
                        refine A_iconst (v := 1) Γ dX1_look_143 (by decide) ?_
                        refine A_icmp_ne (t := 194) Γ dX1_look_144 (by decide) (fun c => ?_) (fun c => ?_)
                        · replace eJ32 := it_f c eJ32
                          obtain ⟨rfl, rfl, rfl⟩ := inj3 eJ32
                          exact A_sub [1, 2, 3, 4, 0, 5, 6, 7] rfl hJJ32
                        · replace eJ32 := it_t c eJ32
                          refine A_iload Γ dX1_look_147 5 rfl ?_
                          refine A_bipush (v := 6) Γ dX1_look_149 (by decide) ?_
                          replace eJ32 := b1 eJ32
                          obtain ⟨σ37, eJ36, eJ32⟩ := eJ32
                          have hJJ36 : At G 14 σ37 [(0, .ref (xo X)), (2, .int a2), (3, .int a3), (4, .int v14), (5, .int x29), (6, .int x19), (7, .int x20), (8, .int x21)] [] 163 := by
                            refine A_iinc (v := x19 + 1) (lv' := [(6, .int (x19 + 1)), (0, .ref (xo X)), (2, .int a2), (3, .int a3), (4, .int v14), (5, .int x29), (7, .int x20), (8, .int x21)]) Γ dX1_look_163 5 rfl rfl (by decide) rfl ?_
                            refine A_iload Γ dX1_look_166 6 rfl ?_
                            replace eJ32 := b2 eJ32
                            obtain ⟨σ41, x42, eJ40, eJ32⟩ := eJ32
                            have hJJ40 : At G 14 σ41 [(0, .ref (xo X)), (2, .int a2), (3, .int a3), (4, .int v14), (5, .int x29), (6, .int (x19 + 1)), (8, .int x21)] [.int x42] 192 := by
                              refine A_istore (lv' := [(7, .int x42), (0, .ref (xo X)), (2, .int a2), (3, .int a3), (4, .int v14), (5, .int x29), (6, .int (x19 + 1)), (8, .int x21)]) Γ dX1_look_192 (by decide) rfl ?_
                              obtain ⟨rfl, rfl, rfl⟩ := inj3 eJ32
                              exact A_sub [1, 2, 3, 4, 5, 6, 0, 7] rfl hJJ32
                            refine A_if_eq (t := 191) Γ dX1_look_168 (by decide) (fun c => ?_) (fun c => ?_)
                            · replace eJ40 := it_t c eJ40
                              refine A_iconst (v := 0) Γ dX1_look_191 (by decide) ?_
                              obtain ⟨rfl, rfl⟩ := inj2 eJ40
                              exact A_sub [1, 2, 3, 4, 5, 0, 7] rfl hJJ40
                            · replace eJ40 := it_f c eJ40
                              refine A_aload_n Γ dX1_look_171 1 rfl ?_
                              refine A_iload_n Γ dX1_look_172 2 rfl ?_
                              refine A_aload_n Γ dX1_look_173 1 rfl ?_
                              refine g1_5 Γ Ξ dX1_look_174 ?_
                              refine A_iload Γ dX1_look_177 7 rfl ?_
                              replace eJ40 := b2 eJ40
                              obtain ⟨v44, σ45, e43, eJ40⟩ := eJ40
                              refine kX1_X1comesTo Γ Ξ hRm (by decide) (by decide) e43 (Nat.le_of_ble_eq_true rfl) dX1_look_179 ?_
                              refine A_ldc (v := 100000000) Γ q1362 dX1_look_182 ?_
                              refine A_icmp_ge (t := 191) Γ dX1_look_184 (by decide) (fun c => ?_) (fun c => ?_)
                              · replace eJ40 := it_t c eJ40
                                refine A_iconst (v := 0) Γ dX1_look_191 (by decide) ?_
                                obtain ⟨rfl, rfl⟩ := inj2 eJ40
                                exact A_sub [1, 2, 3, 4, 5, 0, 7] rfl hJJ40
                              · replace eJ40 := it_f c eJ40
                                refine A_iconst (v := 1) Γ dX1_look_187 (by decide) ?_
                                refine A_goto (t := 192) Γ dX1_look_188 (by decide) ?_
                                obtain ⟨rfl, rfl⟩ := inj2 eJ40
                                exact A_sub [1, 2, 3, 4, 5, 0, 7] rfl hJJ40
                          refine A_icmp_ge (t := 163) Γ dX1_look_151 (by decide) (fun c => ?_) (fun c => ?_)
                          · replace eJ36 := it_t c eJ36
                            obtain rfl := inj1 eJ36
                            exact A_sub [1, 2, 3, 4, 0, 5, 6, 7] rfl hJJ36
                          · replace eJ36 := it_f c eJ36
                            refine A_aload_n Γ dX1_look_154 1 rfl ?_
                            refine g1_60 Γ Ξ dX1_look_155 ?_
                            refine A_iload Γ dX1_look_158 5 rfl ?_
                            refine A_iload Γ dX1_look_160 7 rfl ?_
                            replace eJ36 := b1 eJ36
                            obtain ⟨σ38, e39, eJ36⟩ := eJ36
                            refine w1_60 Γ Ξ e39 dX1_look_162 ?_
                            obtain rfl := inj1 eJ36
                            exact A_sub [1, 2, 3, 4, 0, 5, 6, 7] rfl hJJ36
                    refine A_if_eq (t := 128) Γ dX1_look_110 (by decide) (fun c => ?_) (fun c => ?_)
                    · replace eJ28 := it_t c eJ28
                      refine A_iconst (v := 0) Γ dX1_look_128 (by decide) ?_
                      obtain rfl := inj1 eJ28
                      exact A_sub [1, 2, 3, 4, 6, 7, 8, 0] rfl hJJ28
                    · replace eJ28 := it_f c eJ28
                      refine A_iload Γ dX1_look_113 0 rfl ?_
                      refine A_iconst (v := 0) Γ dX1_look_115 (by decide) ?_
                      refine A_bipush (v := 100) Γ dX1_look_116 (by decide) ?_
                      replace eJ28 := b1 eJ28
                      obtain ⟨v31, e30, eJ28⟩ := eJ28
                      refine kX1_X1in Γ (kpX Ξ) hRm (by decide) (by decide) e30 (Nat.le_of_ble_eq_true rfl) dX1_look_118 ?_
                      refine A_if_eq (t := 128) Γ dX1_look_121 (by decide) (fun c => ?_) (fun c => ?_)
                      · replace eJ28 := it_t c eJ28
                        refine A_iconst (v := 0) Γ dX1_look_128 (by decide) ?_
                        obtain rfl := inj1 eJ28
                        exact A_sub [1, 2, 3, 4, 6, 7, 8, 0] rfl hJJ28
                      · replace eJ28 := it_f c eJ28
                        refine A_iconst (v := 1) Γ dX1_look_124 (by decide) ?_
                        refine A_goto (t := 129) Γ dX1_look_125 (by decide) ?_
                        obtain rfl := inj1 eJ28
                        exact A_sub [1, 2, 3, 4, 6, 7, 8, 0] rfl hJJ28
              exact A_sub [5, 7, 8, 4, 3, 2, 1, 0] rfl (hLL16 _ _ _ _ _ _ eLL16)
            · replace h := it_f c h
              refine A_aload_n Γ dX1_look_62 0 rfl ?_
              refine A_iconst (v := 5) Γ dX1_look_63 (by decide) ?_
              replace h := b2 h
              obtain ⟨v108, σ109, e107, h⟩ := h
              refine kX1_X1meets Γ Ξ hRm (by decide) (by decide) e107 (Nat.le_of_ble_eq_true rfl) dX1_look_64 ?_
              obtain ⟨rfl, rfl⟩ := inj2 h
              exact hret _ _ dX1_look_67
          · replace h := it_f c h
            refine A_aload_n Γ dX1_look_45 0 rfl ?_
            refine A_iconst (v := 1) Γ dX1_look_46 (by decide) ?_
            replace h := b2 h
            obtain ⟨v111, σ112, e110, h⟩ := h
            refine kX1_X1meets Γ Ξ hRm (by decide) (by decide) e110 (Nat.le_of_ble_eq_true rfl) dX1_look_47 ?_
            obtain ⟨rfl, rfl⟩ := inj2 h
            exact hret _ _ dX1_look_50
        · replace h := it_t c h
          refine A_bipush (v := (-4)) Γ dX1_look_33 (by decide) ?_
          obtain ⟨rfl, rfl⟩ := inj2 h
          exact hret _ _ dX1_look_35
      · replace h := it_t c h
        refine A_iconst (v := (-1)) Γ dX1_look_22 (by decide) ?_
        obtain ⟨rfl, rfl⟩ := inj2 h
        exact hret _ _ dX1_look_23
theorem mtX1_look (l : Launch) (X : Xw) {σ σ' : St} {a1 : Int32} {a2 : Int32} {a3 : Int32} {r : Int32} (h : m_look σ a1 a2 a3 = some (r, σ')) : MetZ 1 l X yX1_look cX1_look 14 (some .int) 3 75 [.ref (xo X), .int a1, .int a2, .int a3] σ (some (.int r)) σ' := MetZ.ofAt (by decide) (Nat.le_of_ble_eq_true rfl) (fun G _ Γ Ξ hR hret => wkX1_look Γ Ξ hR h hret)

set_option maxHeartbeats 4000000 in
set_option maxRecDepth 100000 in
theorem wkX1_looked {G : Gx} {X : Xw} {σ : St} (Γ : Ok G RX1 cX1_looked 2) (Ξ : OkX 1 G X) (hRm : Rm G 1 22) {a1 : Int32} {r : Int32} (h : m_looked σ a1 = some r) (hret : ∀ (pc : Nat) (lv : List (Nat × Value)), retIs cX1_looked (some .int) (some (.int r)) pc → At G 2 σ lv [.int r] pc) : At G 2 σ [(0, .ref (xo X)), (1, .int a1)] [] 0 := by
  rw [m_looked] at h
  refine A_iload_n Γ dX1_looked_0 1 rfl ?_
  refine A_iconst (v := 0) Γ dX1_looked_1 (by decide) ?_
  refine A_aload_n Γ dX1_looked_2 0 rfl ?_
  refine g1_58 Γ Ξ dX1_looked_3 ?_
  refine A_iconst (v := 1) Γ dX1_looked_6 (by decide) ?_
  refine A_isub Γ dX1_looked_7 ?_
  replace h := b1 h
  obtain ⟨v2, e1, h⟩ := h
  refine kX1_X1in Γ (kpX Ξ) hRm (by decide) (by decide) e1 (Nat.le_of_ble_eq_true rfl) dX1_looked_8 ?_
  replace h := b1 h
  obtain ⟨x4, eJ3, h⟩ := h
  have hJJ3 : At G 2 σ [] [.int x4] 25 := by
    obtain rfl := inj1 h
    exact hret _ _ dX1_looked_25
  refine A_if_eq (t := 23) Γ dX1_looked_11 (by decide) (fun c => ?_) (fun c => ?_)
  · replace eJ3 := it_t c eJ3
    refine A_bipush (v := (-9)) Γ dX1_looked_23 (by decide) ?_
    obtain rfl := inj1 eJ3
    exact A_sub [] rfl hJJ3
  · replace eJ3 := it_f c eJ3
    refine A_aload_n Γ dX1_looked_14 0 rfl ?_
    refine g1_59 Γ Ξ dX1_looked_15 ?_
    refine A_iload_n Γ dX1_looked_18 1 rfl ?_
    replace eJ3 := b1 eJ3
    obtain ⟨v5, e6, eJ3⟩ := eJ3
    refine r1_59 Γ Ξ e6 dX1_looked_19 ?_
    refine A_goto (t := 25) Γ dX1_looked_20 (by decide) ?_
    obtain rfl := inj1 eJ3
    exact A_sub [] rfl hJJ3
theorem mtX1_looked (l : Launch) (X : Xw) {σ : St} {a1 : Int32} {r : Int32} (h : m_looked σ a1 = some r) : MetZ 1 l X yX1_looked cX1_looked 2 (some .int) 1 22 [.ref (xo X), .int a1] σ (some (.int r)) σ := MetZ.ofAt (by decide) (Nat.le_of_ble_eq_true rfl) (fun G _ Γ Ξ hR hret => wkX1_looked Γ Ξ hR h hret)

set_option maxHeartbeats 4000000 in
set_option maxRecDepth 100000 in
theorem wkX1_nextBrought {G : Gx} {X : Xw} {σ σ' : St} (Γ : Ok G RX1 cX1_nextBrought 5) (Ξ : OkX 1 G X) (hRm : Rm G 0 0)  {r : Int32} (h : m_nextBrought σ = some (r, σ')) (hret : ∀ (pc : Nat) (lv : List (Nat × Value)), retIs cX1_nextBrought (some .int) (some (.int r)) pc → At G 5 σ' lv [.int r] pc) : At G 5 σ [(0, .ref (xo X))] [] 0 := by
  rw [m_nextBrought] at h
  refine A_iconst (v := 0) Γ dX1_nextBrought_0 (by decide) ?_
  refine A_istore_n (lv' := [(1, .int 0), (0, .ref (xo X))]) Γ dX1_nextBrought_1 (by decide) rfl ?_
  replace h := b1 h
  obtain ⟨σ4, eLL1, h⟩ := h
  have hXL1 : At G 5 σ4 [(0, .ref (xo X))] [] 65 := by
    refine A_iconst (v := 1) Γ dX1_nextBrought_65 (by decide) ?_
    refine A_istore_n (lv' := [(1, .int 1), (0, .ref (xo X))]) Γ dX1_nextBrought_66 (by decide) rfl ?_
    replace h := b1 h
    obtain ⟨σ20, eLL17, h⟩ := h
    have hXL17 : At G 5 σ20 [(0, .ref (xo X))] [] 253 := by
      refine A_bipush (v := (-9)) Γ dX1_nextBrought_253 (by decide) ?_
      refine A_istore_n (lv' := [(2, .int (-9)), (0, .ref (xo X))]) Γ dX1_nextBrought_255 (by decide) rfl ?_
      refine A_bipush (v := 8) Γ dX1_nextBrought_256 (by decide) ?_
      refine A_istore_n (lv' := [(3, .int 8), (2, .int (-9)), (0, .ref (xo X))]) Γ dX1_nextBrought_258 (by decide) rfl ?_
      replace h := b1 h
      obtain ⟨x72, eLL69, h⟩ := h
      have hXL69 : At G 5 σ20 [(2, .int x72)] [] 319 := by
        refine A_iload_n Γ dX1_nextBrought_319 0 rfl ?_
        obtain ⟨rfl, rfl⟩ := inj2 h
        exact hret _ _ dX1_nextBrought_320
      replace eLL69 := lq2_ex eLL69
      obtain ⟨nL69, eLL69⟩ := eLL69
      have hLL69 : ∀ (nL69 : Nat) (x70 : Int32) (x71 : Int32), lpf2 (m_nextBrought_L69 σ20) nL69 x70 x71 = some x72 → At G 5 σ20 [(0, .ref (xo X)), (2, .int x70), (3, .int x71)] [] 259 := by
        intro nL69
        induction nL69 with
        | zero => intro x70 x71 eL69; exact (lpf2_0 eL69).elim
        | succ nL69 ihL69 =>
          intro x70 x71 eL69
          replace eL69 := lpf2_s eL69
          obtain ⟨qL69, eL69, hqL69⟩ := eL69
          rw [m_nextBrought_L69] at eL69
          refine A_iload_n Γ dX1_nextBrought_259 2 rfl ?_
          refine A_bipush (v := 16) Γ dX1_nextBrought_260 (by decide) ?_
          refine A_icmp_ge (t := 319) Γ dX1_nextBrought_262 (by decide) (fun c => ?_) (fun c => ?_)
          · replace eL69 := it_t c eL69
            obtain rfl := pr1 (lpx2 eL69 hqL69)
            exact A_sub [1] rfl hXL69
          · replace eL69 := it_f c eL69
            refine A_aload_n Γ dX1_nextBrought_265 0 rfl ?_
            refine g1_65 Γ Ξ dX1_nextBrought_266 ?_
            refine A_iload_n Γ dX1_nextBrought_269 2 rfl ?_
            refine A_bipush (v := 8) Γ dX1_nextBrought_270 (by decide) ?_
            refine A_isub Γ dX1_nextBrought_272 ?_
            replace eL69 := b1 eL69
            obtain ⟨v73, e74, eL69⟩ := eL69
            refine r1_65 Γ Ξ e74 dX1_nextBrought_273 ?_
            replace eL69 := b1 eL69
            obtain ⟨x76, eJ75, eL69⟩ := eL69
            have hJJ75 : At G 5 σ20 [(0, .ref (xo X)), (3, .int x71)] [.int x76] 312 := by
              refine A_istore_n (lv' := [(2, .int x76), (0, .ref (xo X)), (3, .int x71)]) Γ dX1_nextBrought_312 (by decide) rfl ?_
              refine A_iinc (v := x71 + 1) (lv' := [(3, .int (x71 + 1)), (2, .int x76), (0, .ref (xo X))]) Γ dX1_nextBrought_313 2 rfl rfl (by decide) rfl ?_
              refine A_goto (t := 259) Γ dX1_nextBrought_316 (by decide) ?_
              exact A_sub [2, 1, 0] rfl (ihL69 _ _ (lpc2 eL69 hqL69))
            refine A_if_le (t := 311) Γ dX1_nextBrought_274 (by decide) (fun c => ?_) (fun c => ?_)
            · replace eJ75 := it_t c eJ75
              refine A_iload_n Γ dX1_nextBrought_311 1 rfl ?_
              obtain rfl := inj1 eJ75
              exact A_sub [0, 2] rfl hJJ75
            · replace eJ75 := it_f c eJ75
              refine A_aload_n Γ dX1_nextBrought_277 0 rfl ?_
              refine g1_67 Γ Ξ dX1_nextBrought_278 ?_
              refine A_iload_n Γ dX1_nextBrought_281 2 rfl ?_
              replace eJ75 := b1 eJ75
              obtain ⟨v77, e78, eJ75⟩ := eJ75
              refine r1_67 Γ Ξ e78 dX1_nextBrought_282 ?_
              refine A_ldc (v := 100000000) Γ q1362 dX1_nextBrought_283 ?_
              refine A_icmp_ge (t := 311) Γ dX1_nextBrought_285 (by decide) (fun c => ?_) (fun c => ?_)
              · replace eJ75 := it_t c eJ75
                refine A_iload_n Γ dX1_nextBrought_311 1 rfl ?_
                obtain rfl := inj1 eJ75
                exact A_sub [0, 2] rfl hJJ75
              · replace eJ75 := it_f c eJ75
                refine A_iload_n Γ dX1_nextBrought_288 1 rfl ?_
                refine A_if_lt (t := 307) Γ dX1_nextBrought_289 (by decide) (fun c => ?_) (fun c => ?_)
                · replace eJ75 := it_t c eJ75
                  refine A_iload_n Γ dX1_nextBrought_307 2 rfl ?_
                  refine A_goto (t := 312) Γ dX1_nextBrought_308 (by decide) ?_
                  obtain rfl := inj1 eJ75
                  exact A_sub [0, 2] rfl hJJ75
                · replace eJ75 := it_f c eJ75
                  refine A_aload_n Γ dX1_nextBrought_292 0 rfl ?_
                  refine g1_67 Γ Ξ dX1_nextBrought_293 ?_
                  refine A_iload_n Γ dX1_nextBrought_296 2 rfl ?_
                  replace eJ75 := b1 eJ75
                  obtain ⟨v79, e80, eJ75⟩ := eJ75
                  refine r1_67 Γ Ξ e80 dX1_nextBrought_297 ?_
                  refine A_aload_n Γ dX1_nextBrought_298 0 rfl ?_
                  refine g1_67 Γ Ξ dX1_nextBrought_299 ?_
                  refine A_iload_n Γ dX1_nextBrought_302 1 rfl ?_
                  replace eJ75 := b1 eJ75
                  obtain ⟨v81, e82, eJ75⟩ := eJ75
                  refine r1_67 Γ Ξ e82 dX1_nextBrought_303 ?_
                  refine A_icmp_ge (t := 311) Γ dX1_nextBrought_304 (by decide) (fun c => ?_) (fun c => ?_)
                  · replace eJ75 := it_t c eJ75
                    refine A_iload_n Γ dX1_nextBrought_311 1 rfl ?_
                    obtain rfl := inj1 eJ75
                    exact A_sub [0, 2] rfl hJJ75
                  · replace eJ75 := it_f c eJ75
                    refine A_iload_n Γ dX1_nextBrought_307 2 rfl ?_
                    refine A_goto (t := 312) Γ dX1_nextBrought_308 (by decide) ?_
                    obtain rfl := inj1 eJ75
                    exact A_sub [0, 2] rfl hJJ75
      exact A_sub [2, 1, 0] rfl (hLL69 _ _ _ eLL69)
    replace eLL17 := lq2_ex eLL17
    obtain ⟨nL17, eLL17⟩ := eLL17
    have hLL17 : ∀ (nL17 : Nat) (σ18 : St) (x19 : Int32), lpf2 (m_nextBrought_L17) nL17 σ18 x19 = some σ20 → At G 5 σ18 [(0, .ref (xo X)), (1, .int x19)] [] 67 := by
      intro nL17
      induction nL17 with
      | zero => intro σ18 x19 eL17; exact (lpf2_0 eL17).elim
      | succ nL17 ihL17 =>
        intro σ18 x19 eL17
        replace eL17 := lpf2_s eL17
        obtain ⟨qL17, eL17, hqL17⟩ := eL17
        rw [m_nextBrought_L17] at eL17
        refine A_iload_n Γ dX1_nextBrought_67 1 rfl ?_
        refine A_if_eq (t := 253) Γ dX1_nextBrought_68 (by decide) (fun c => ?_) (fun c => ?_)
        · replace eL17 := it_t c eL17
          obtain rfl := pr1 (lpx2 eL17 hqL17)
          exact A_sub [0] rfl hXL17
        · replace eL17 := it_f c eL17
          refine A_iconst (v := 0) Γ dX1_nextBrought_71 (by decide) ?_
          refine A_istore_n (lv' := [(1, .int 0), (0, .ref (xo X))]) Γ dX1_nextBrought_72 (by decide) rfl ?_
          refine A_iconst (v := 0) Γ dX1_nextBrought_73 (by decide) ?_
          refine A_istore_n (lv' := [(2, .int 0), (1, .int 0), (0, .ref (xo X))]) Γ dX1_nextBrought_74 (by decide) rfl ?_
          replace eL17 := b2 eL17
          obtain ⟨σ25, x26, eLL21, eL17⟩ := eL17
          have hXL21 : At G 5 σ25 [(0, .ref (xo X)), (1, .int x26)] [] 250 := by
            refine A_goto (t := 67) Γ dX1_nextBrought_250 (by decide) ?_
            exact A_sub [0, 1] rfl (ihL17 _ _ (lpc2 eL17 hqL17))
          replace eLL21 := lq3_ex eLL21
          obtain ⟨nL21, eLL21⟩ := eLL21
          have hLL21 : ∀ (nL21 : Nat) (σ22 : St) (x23 : Int32) (x24 : Int32), lpf3 (m_nextBrought_L21) nL21 σ22 x23 x24 = some (σ25, x26) → At G 5 σ22 [(0, .ref (xo X)), (1, .int x23), (2, .int x24)] [] 75 := by
            intro nL21
            induction nL21 with
            | zero => intro σ22 x23 x24 eL21; exact (lpf3_0 eL21).elim
            | succ nL21 ihL21 =>
              intro σ22 x23 x24 eL21
              replace eL21 := lpf3_s eL21
              obtain ⟨qL21, eL21, hqL21⟩ := eL21
              rw [m_nextBrought_L21] at eL21
              refine A_iload_n Γ dX1_nextBrought_75 2 rfl ?_
              refine A_bipush (v := 64) Γ dX1_nextBrought_76 (by decide) ?_
              refine A_icmp_ge (t := 250) Γ dX1_nextBrought_78 (by decide) (fun c => ?_) (fun c => ?_)
              · replace eL21 := it_t c eL21
                obtain ⟨rfl, rfl⟩ := pr2 (lpx3 eL21 hqL21)
                exact A_sub [0, 1] rfl hXL21
              · replace eL21 := it_f c eL21
                refine A_iload_n Γ dX1_nextBrought_81 2 rfl ?_
                refine A_bipush (v := 8) Γ dX1_nextBrought_82 (by decide) ?_
                refine A_idiv Γ dX1_nextBrought_84 (by decide) ?_
                refine A_istore_n (lv' := [(3, .int (x24 / 8)), (0, .ref (xo X)), (1, .int x23), (2, .int x24)]) Γ dX1_nextBrought_85 (by decide) rfl ?_
                refine A_bipush (v := 8) Γ dX1_nextBrought_86 (by decide) ?_
                refine A_iload_n Γ dX1_nextBrought_88 3 rfl ?_
                refine A_bipush (v := 8) Γ dX1_nextBrought_89 (by decide) ?_
                refine A_irem Γ dX1_nextBrought_91 (by decide) ?_
                refine A_iadd Γ dX1_nextBrought_92 ?_
                refine A_istore (lv' := [(4, .int (8 + (x24 - x24 / 8 * 8))), (3, .int (x24 / 8)), (0, .ref (xo X)), (1, .int x23), (2, .int x24)]) Γ dX1_nextBrought_93 (by decide) rfl ?_
                refine A_aload_n Γ dX1_nextBrought_95 2 rfl ?_
                refine g1_66 Γ Ξ dX1_nextBrought_96 ?_
                refine A_iload_n Γ dX1_nextBrought_99 4 rfl ?_
                replace eL21 := b1 eL21
                obtain ⟨v27, e28, eL21⟩ := eL21
                refine r1_66 Γ Ξ e28 dX1_nextBrought_100 ?_
                refine A_ldc (v := 100000000) Γ q1362 dX1_nextBrought_101 ?_
                replace eL21 := b2 eL21
                obtain ⟨σ30, x31, eJ29, eL21⟩ := eL21
                have hJJ29 : At G 5 σ30 [(0, .ref (xo X)), (1, .int x31), (2, .int x24), (3, .int (x24 / 8)), (4, .int (8 + (x24 - x24 / 8 * 8)))] [] 170 := by
                  refine A_aload_n Γ dX1_nextBrought_170 0 rfl ?_
                  refine g1_63 Γ Ξ dX1_nextBrought_171 ?_
                  refine A_iload_n Γ dX1_nextBrought_174 2 rfl ?_
                  replace eL21 := b1 eL21
                  obtain ⟨v48, e49, eL21⟩ := eL21
                  refine r1_63 Γ Ξ e49 dX1_nextBrought_175 ?_
                  replace eL21 := b2 eL21
                  obtain ⟨σ51, x52, eJ50, eL21⟩ := eL21
                  have hJJ50 : At G 5 σ51 [(0, .ref (xo X)), (1, .int x52), (2, .int x24)] [] 244 := by
                    refine A_iinc (v := x24 + 1) (lv' := [(2, .int (x24 + 1)), (0, .ref (xo X)), (1, .int x52)]) Γ dX1_nextBrought_244 2 rfl rfl (by decide) rfl ?_
                    refine A_goto (t := 75) Γ dX1_nextBrought_247 (by decide) ?_
                    exact A_sub [1, 2, 0] rfl (ihL21 _ _ _ (lpc3 eL21 hqL21))
                  refine A_if_le (t := 244) Γ dX1_nextBrought_176 (by decide) (fun c => ?_) (fun c => ?_)
                  · replace eJ50 := it_t c eJ50
                    obtain ⟨rfl, rfl⟩ := inj2 eJ50
                    exact A_sub [0, 1, 2] rfl hJJ50
                  · replace eJ50 := it_f c eJ50
                    refine A_aload_n Γ dX1_nextBrought_179 0 rfl ?_
                    refine g1_67 Γ Ξ dX1_nextBrought_180 ?_
                    refine A_iload Γ dX1_nextBrought_183 4 rfl ?_
                    replace eJ50 := b1 eJ50
                    obtain ⟨v53, e54, eJ50⟩ := eJ50
                    refine r1_67 Γ Ξ e54 dX1_nextBrought_185 ?_
                    refine A_ldc (v := 100000000) Γ q1362 dX1_nextBrought_186 ?_
                    refine A_icmp_ge (t := 244) Γ dX1_nextBrought_188 (by decide) (fun c => ?_) (fun c => ?_)
                    · replace eJ50 := it_t c eJ50
                      obtain ⟨rfl, rfl⟩ := inj2 eJ50
                      exact A_sub [0, 1, 2] rfl hJJ50
                    · replace eJ50 := it_f c eJ50
                      refine A_aload_n Γ dX1_nextBrought_191 0 rfl ?_
                      refine g1_67 Γ Ξ dX1_nextBrought_192 ?_
                      refine A_iload Γ dX1_nextBrought_195 4 rfl ?_
                      replace eJ50 := b1 eJ50
                      obtain ⟨v55, e56, eJ50⟩ := eJ50
                      refine r1_67 Γ Ξ e56 dX1_nextBrought_197 ?_
                      refine A_aload_n Γ dX1_nextBrought_198 0 rfl ?_
                      refine g1_66 Γ Ξ dX1_nextBrought_199 ?_
                      refine A_iload_n Γ dX1_nextBrought_202 2 rfl ?_
                      replace eJ50 := b1 eJ50
                      obtain ⟨v57, e58, eJ50⟩ := eJ50
                      refine r1_66 Γ Ξ e58 dX1_nextBrought_203 ?_
                      refine A_isub Γ dX1_nextBrought_204 ?_
                      refine A_aload_n Γ dX1_nextBrought_205 0 rfl ?_
                      refine g1_67 Γ Ξ dX1_nextBrought_206 ?_
                      refine A_iload_n Γ dX1_nextBrought_209 3 rfl ?_
                      replace eJ50 := b1 eJ50
                      obtain ⟨v59, e60, eJ50⟩ := eJ50
                      refine r1_67 Γ Ξ e60 dX1_nextBrought_210 ?_
                      refine A_icmp_ge (t := 244) Γ dX1_nextBrought_211 (by decide) (fun c => ?_) (fun c => ?_)
                      · replace eJ50 := it_t c eJ50
                        obtain ⟨rfl, rfl⟩ := inj2 eJ50
                        exact A_sub [0, 1, 2] rfl hJJ50
                      · replace eJ50 := it_f c eJ50
                        refine A_aload_n Γ dX1_nextBrought_214 0 rfl ?_
                        refine g1_67 Γ Ξ dX1_nextBrought_215 ?_
                        refine A_iload_n Γ dX1_nextBrought_218 3 rfl ?_
                        refine A_aload_n Γ dX1_nextBrought_219 0 rfl ?_
                        refine g1_67 Γ Ξ dX1_nextBrought_220 ?_
                        refine A_iload Γ dX1_nextBrought_223 4 rfl ?_
                        replace eJ50 := b1 eJ50
                        obtain ⟨v61, e62, eJ50⟩ := eJ50
                        refine r1_67 Γ Ξ e62 dX1_nextBrought_225 ?_
                        refine A_aload_n Γ dX1_nextBrought_226 0 rfl ?_
                        refine g1_66 Γ Ξ dX1_nextBrought_227 ?_
                        refine A_iload_n Γ dX1_nextBrought_230 2 rfl ?_
                        replace eJ50 := b1 eJ50
                        obtain ⟨v63, e64, eJ50⟩ := eJ50
                        refine r1_66 Γ Ξ e64 dX1_nextBrought_231 ?_
                        refine A_isub Γ dX1_nextBrought_232 ?_
                        replace eJ50 := b1 eJ50
                        obtain ⟨σ65, e66, eJ50⟩ := eJ50
                        refine w1_67 Γ Ξ e66 dX1_nextBrought_233 ?_
                        refine A_aload_n Γ dX1_nextBrought_234 0 rfl ?_
                        refine g1_68 Γ Ξ dX1_nextBrought_235 ?_
                        refine A_iload_n Γ dX1_nextBrought_238 3 rfl ?_
                        refine A_iload Γ dX1_nextBrought_239 4 rfl ?_
                        replace eJ50 := b1 eJ50
                        obtain ⟨σ67, e68, eJ50⟩ := eJ50
                        refine w1_68 Γ Ξ e68 dX1_nextBrought_241 ?_
                        refine A_iconst (v := 1) Γ dX1_nextBrought_242 (by decide) ?_
                        refine A_istore_n (lv' := [(1, .int 1), (0, .ref (xo X)), (2, .int x24), (3, .int (x24 / 8)), (4, .int (8 + (x24 - x24 / 8 * 8)))]) Γ dX1_nextBrought_243 (by decide) rfl ?_
                        obtain ⟨rfl, rfl⟩ := inj2 eJ50
                        exact A_sub [1, 0, 2] rfl hJJ50
                refine A_icmp_ge (t := 170) Γ dX1_nextBrought_103 (by decide) (fun c => ?_) (fun c => ?_)
                · replace eJ29 := it_t c eJ29
                  obtain ⟨rfl, rfl⟩ := inj2 eJ29
                  exact A_sub [2, 3, 4, 1, 0] rfl hJJ29
                · replace eJ29 := it_f c eJ29
                  refine A_aload_n Γ dX1_nextBrought_106 2 rfl ?_
                  refine g1_67 Γ Ξ dX1_nextBrought_107 ?_
                  refine A_iload_n Γ dX1_nextBrought_110 1 rfl ?_
                  replace eJ29 := b1 eJ29
                  obtain ⟨v32, e33, eJ29⟩ := eJ29
                  refine r1_67 Γ Ξ e33 dX1_nextBrought_111 ?_
                  refine A_ldc (v := 100000000) Γ q1362 dX1_nextBrought_112 ?_
                  refine A_icmp_ge (t := 170) Γ dX1_nextBrought_114 (by decide) (fun c => ?_) (fun c => ?_)
                  · replace eJ29 := it_t c eJ29
                    obtain ⟨rfl, rfl⟩ := inj2 eJ29
                    exact A_sub [2, 3, 4, 1, 0] rfl hJJ29
                  · replace eJ29 := it_f c eJ29
                    refine A_aload_n Γ dX1_nextBrought_117 2 rfl ?_
                    refine g1_67 Γ Ξ dX1_nextBrought_118 ?_
                    refine A_iload_n Γ dX1_nextBrought_121 1 rfl ?_
                    replace eJ29 := b1 eJ29
                    obtain ⟨v34, e35, eJ29⟩ := eJ29
                    refine r1_67 Γ Ξ e35 dX1_nextBrought_122 ?_
                    refine A_aload_n Γ dX1_nextBrought_123 2 rfl ?_
                    refine g1_66 Γ Ξ dX1_nextBrought_124 ?_
                    refine A_iload_n Γ dX1_nextBrought_127 4 rfl ?_
                    replace eJ29 := b1 eJ29
                    obtain ⟨v36, e37, eJ29⟩ := eJ29
                    refine r1_66 Γ Ξ e37 dX1_nextBrought_128 ?_
                    refine A_iadd Γ dX1_nextBrought_129 ?_
                    refine A_aload_n Γ dX1_nextBrought_130 2 rfl ?_
                    refine g1_67 Γ Ξ dX1_nextBrought_131 ?_
                    refine A_iload Γ dX1_nextBrought_134 0 rfl ?_
                    replace eJ29 := b1 eJ29
                    obtain ⟨v38, e39, eJ29⟩ := eJ29
                    refine r1_67 Γ Ξ e39 dX1_nextBrought_136 ?_
                    refine A_icmp_ge (t := 170) Γ dX1_nextBrought_137 (by decide) (fun c => ?_) (fun c => ?_)
                    · replace eJ29 := it_t c eJ29
                      obtain ⟨rfl, rfl⟩ := inj2 eJ29
                      exact A_sub [2, 3, 4, 1, 0] rfl hJJ29
                    · replace eJ29 := it_f c eJ29
                      refine A_aload_n Γ dX1_nextBrought_140 2 rfl ?_
                      refine g1_67 Γ Ξ dX1_nextBrought_141 ?_
                      refine A_iload Γ dX1_nextBrought_144 0 rfl ?_
                      refine A_aload_n Γ dX1_nextBrought_146 2 rfl ?_
                      refine g1_67 Γ Ξ dX1_nextBrought_147 ?_
                      refine A_iload_n Γ dX1_nextBrought_150 1 rfl ?_
                      replace eJ29 := b1 eJ29
                      obtain ⟨v40, e41, eJ29⟩ := eJ29
                      refine r1_67 Γ Ξ e41 dX1_nextBrought_151 ?_
                      refine A_aload_n Γ dX1_nextBrought_152 2 rfl ?_
                      refine g1_66 Γ Ξ dX1_nextBrought_153 ?_
                      refine A_iload_n Γ dX1_nextBrought_156 4 rfl ?_
                      replace eJ29 := b1 eJ29
                      obtain ⟨v42, e43, eJ29⟩ := eJ29
                      refine r1_66 Γ Ξ e43 dX1_nextBrought_157 ?_
                      refine A_iadd Γ dX1_nextBrought_158 ?_
                      replace eJ29 := b1 eJ29
                      obtain ⟨σ44, e45, eJ29⟩ := eJ29
                      refine w1_67 Γ Ξ e45 dX1_nextBrought_159 ?_
                      refine A_aload_n Γ dX1_nextBrought_160 2 rfl ?_
                      refine g1_68 Γ Ξ dX1_nextBrought_161 ?_
                      refine A_iload Γ dX1_nextBrought_164 0 rfl ?_
                      refine A_iload_n Γ dX1_nextBrought_166 1 rfl ?_
                      replace eJ29 := b1 eJ29
                      obtain ⟨σ46, e47, eJ29⟩ := eJ29
                      refine w1_68 Γ Ξ e47 dX1_nextBrought_167 ?_
                      refine A_iconst (v := 1) Γ dX1_nextBrought_168 (by decide) ?_
                      refine A_istore_n (lv' := [(1, .int 1), (4, .int (8 + (x24 - x24 / 8 * 8))), (3, .int (x24 / 8)), (0, .ref (xo X)), (2, .int x24)]) Γ dX1_nextBrought_169 (by decide) rfl ?_
                      obtain ⟨rfl, rfl⟩ := inj2 eJ29
                      exact A_sub [3, 0, 4, 2, 1] rfl hJJ29
          exact A_sub [2, 1, 0] rfl (hLL21 _ _ _ _ eLL21)
    exact A_sub [1, 0] rfl (hLL17 _ _ _ eLL17)
  replace eLL1 := lq2_ex eLL1
  obtain ⟨nL1, eLL1⟩ := eLL1
  have hLL1 : ∀ (nL1 : Nat) (σ2 : St) (x3 : Int32), lpf2 (m_nextBrought_L1) nL1 σ2 x3 = some σ4 → At G 5 σ2 [(0, .ref (xo X)), (1, .int x3)] [] 2 := by
    intro nL1
    induction nL1 with
    | zero => intro σ2 x3 eL1; exact (lpf2_0 eL1).elim
    | succ nL1 ihL1 =>
      intro σ2 x3 eL1
      replace eL1 := lpf2_s eL1
      obtain ⟨qL1, eL1, hqL1⟩ := eL1
      rw [m_nextBrought_L1] at eL1
      refine A_iload_n Γ dX1_nextBrought_2 1 rfl ?_
      refine A_bipush (v := 8) Γ dX1_nextBrought_3 (by decide) ?_
      refine A_icmp_ge (t := 65) Γ dX1_nextBrought_5 (by decide) (fun c => ?_) (fun c => ?_)
      · replace eL1 := it_t c eL1
        obtain rfl := pr1 (lpx2 eL1 hqL1)
        exact A_sub [0] rfl hXL1
      · replace eL1 := it_f c eL1
        refine A_aload_n Γ dX1_nextBrought_8 0 rfl ?_
        refine g1_67 Γ Ξ dX1_nextBrought_9 ?_
        refine A_iload_n Γ dX1_nextBrought_12 1 rfl ?_
        refine A_aload_n Γ dX1_nextBrought_13 0 rfl ?_
        refine g1_64 Γ Ξ dX1_nextBrought_14 ?_
        refine A_iload_n Γ dX1_nextBrought_17 1 rfl ?_
        replace eL1 := b1 eL1
        obtain ⟨v5, e6, eL1⟩ := eL1
        refine r1_64 Γ Ξ e6 dX1_nextBrought_18 ?_
        replace eL1 := b1 eL1
        obtain ⟨x8, eJ7, eL1⟩ := eL1
        have hJJ7 : At G 5 σ2 [(0, .ref (xo X)), (1, .int x3)] [.int x8, .int x3, .ref (xad X 67)] 28 := by
          replace eL1 := b1 eL1
          obtain ⟨σ9, e10, eL1⟩ := eL1
          refine w1_67 Γ Ξ e10 dX1_nextBrought_28 ?_
          refine A_aload_n Γ dX1_nextBrought_29 0 rfl ?_
          refine g1_67 Γ Ξ dX1_nextBrought_30 ?_
          refine A_bipush (v := 8) Γ dX1_nextBrought_33 (by decide) ?_
          refine A_iload_n Γ dX1_nextBrought_35 1 rfl ?_
          refine A_iadd Γ dX1_nextBrought_36 ?_
          refine A_ldc (v := 100000000) Γ q1362 dX1_nextBrought_37 ?_
          replace eL1 := b1 eL1
          obtain ⟨σ11, e12, eL1⟩ := eL1
          refine w1_67 Γ Ξ e12 dX1_nextBrought_39 ?_
          refine A_aload_n Γ dX1_nextBrought_40 0 rfl ?_
          refine g1_68 Γ Ξ dX1_nextBrought_41 ?_
          refine A_iload_n Γ dX1_nextBrought_44 1 rfl ?_
          refine A_bipush (v := (-9)) Γ dX1_nextBrought_45 (by decide) ?_
          replace eL1 := b1 eL1
          obtain ⟨σ13, e14, eL1⟩ := eL1
          refine w1_68 Γ Ξ e14 dX1_nextBrought_47 ?_
          refine A_aload_n Γ dX1_nextBrought_48 0 rfl ?_
          refine g1_68 Γ Ξ dX1_nextBrought_49 ?_
          refine A_bipush (v := 8) Γ dX1_nextBrought_52 (by decide) ?_
          refine A_iload_n Γ dX1_nextBrought_54 1 rfl ?_
          refine A_iadd Γ dX1_nextBrought_55 ?_
          refine A_bipush (v := (-9)) Γ dX1_nextBrought_56 (by decide) ?_
          replace eL1 := b1 eL1
          obtain ⟨σ15, e16, eL1⟩ := eL1
          refine w1_68 Γ Ξ e16 dX1_nextBrought_58 ?_
          refine A_iinc (v := x3 + 1) (lv' := [(1, .int (x3 + 1)), (0, .ref (xo X))]) Γ dX1_nextBrought_59 1 rfl rfl (by decide) rfl ?_
          refine A_goto (t := 2) Γ dX1_nextBrought_62 (by decide) ?_
          exact A_sub [1, 0] rfl (ihL1 _ _ (lpc2 eL1 hqL1))
        refine A_if_le (t := 26) Γ dX1_nextBrought_19 (by decide) (fun c => ?_) (fun c => ?_)
        · replace eJ7 := it_t c eJ7
          refine A_ldc (v := 100000000) Γ q1362 dX1_nextBrought_26 ?_
          obtain rfl := inj1 eJ7
          exact A_sub [0, 1] rfl hJJ7
        · replace eJ7 := it_f c eJ7
          refine A_iconst (v := 0) Γ dX1_nextBrought_22 (by decide) ?_
          refine A_goto (t := 28) Γ dX1_nextBrought_23 (by decide) ?_
          obtain rfl := inj1 eJ7
          exact A_sub [0, 1] rfl hJJ7
  exact A_sub [1, 0] rfl (hLL1 _ _ _ eLL1)
theorem mtX1_nextBrought (l : Launch) (X : Xw) {σ σ' : St}  {r : Int32} (h : m_nextBrought σ = some (r, σ')) : MetZ 1 l X yX1_nextBrought cX1_nextBrought 5 (some .int) 0 0 [.ref (xo X)] σ (some (.int r)) σ' := MetZ.ofAt (by decide) (Nat.le_of_ble_eq_true rfl) (fun G _ Γ Ξ hR hret => wkX1_nextBrought Γ Ξ hR h hret)
theorem kX1_X1nextBrought {G : Gx} {X : Xw} {cc : ByteArray} {nL pc F LO : Nat} {σ σ' : St} {lv : List (Nat × Value)} {st : List Value} (Γ : Ok G RX1 cc nL) (Ξ : OkX 1 G X)  {r : Int32} (hRm : Rm G F LO) (hf : 0 + 1 ≤ F) (hlo : 8 + (5 + 11) + 0 ≤ LO) (h : m_nextBrought σ = some (r, σ')) (hW : (st.map fun v => v.category).sum ≤ 8) (d : decode cc pc = .ok (.invokevirtual 362, 3)) (kk : At G nL σ' lv (.int r :: st) (pc + 3)) : At G nL σ lv (.ref (xo X) :: st) pc := A_callV Γ Ξ rfl rfl (mtX1_nextBrought (gl G) X h) (lw_V q1634 q1636 qs59 q64 q1637) (n := 0) (by decide +kernel) (rm_ok hRm hf hlo) (rm_k hRm) rfl rfl hW d kk
set_option maxHeartbeats 4000000 in
set_option maxRecDepth 100000 in
theorem wkX1_pool {G : Gx} {X : Xw} {σ σ' : St} (Γ : Ok G RX1 cX1_pool 8) (Ξ : OkX 1 G X) (hRm : Rm G 2 51) {a1 : Int32} {a2 : Int32} {r : Int32} (h : m_pool σ a1 a2 = some (r, σ')) (hret : ∀ (pc : Nat) (lv : List (Nat × Value)), retIs cX1_pool (some .int) (some (.int r)) pc → At G 8 σ' lv [.int r] pc) : At G 8 σ [(0, .ref (xo X)), (1, .int a1), (2, .int a2)] [] 0 := by
  rw [m_pool] at h
  refine A_iload_n Γ dX1_pool_0 1 rfl ?_
  replace h := b1 h
  obtain ⟨v2, e1, h⟩ := h
  refine kX1_X1isRow Γ (kpX Ξ) hRm (by decide) (by decide) e1 (Nat.le_of_ble_eq_true rfl) dX1_pool_1 ?_
  refine A_if_eq (t := 14) Γ dX1_pool_4 (by decide) (fun c => ?_) (fun c => ?_)
  · replace h := it_t c h
    refine A_iconst (v := (-1)) Γ dX1_pool_14 (by decide) ?_
    obtain ⟨rfl, rfl⟩ := inj2 h
    exact hret _ _ dX1_pool_15
  · replace h := it_f c h
    refine A_iload_n Γ dX1_pool_7 2 rfl ?_
    replace h := b1 h
    obtain ⟨v4, e3, h⟩ := h
    refine kX1_X1isRow Γ (kpX Ξ) hRm (by decide) (by decide) e3 (Nat.le_of_ble_eq_true rfl) dX1_pool_8 ?_
    refine A_if_ne (t := 16) Γ dX1_pool_11 (by decide) (fun c => ?_) (fun c => ?_)
    · replace h := it_f c h
      refine A_aload_n Γ dX1_pool_16 0 rfl ?_
      refine g1_6 Γ Ξ dX1_pool_17 ?_
      refine A_iload_n Γ dX1_pool_20 1 rfl ?_
      replace h := b1 h
      obtain ⟨v5, e6, h⟩ := h
      refine r1_6 Γ Ξ e6 dX1_pool_21 ?_
      refine A_if_lt (t := 34) Γ dX1_pool_22 (by decide) (fun c => ?_) (fun c => ?_)
      · replace h := it_t c h
        refine A_aload_n Γ dX1_pool_34 0 rfl ?_
        refine A_iconst (v := 1) Γ dX1_pool_35 (by decide) ?_
        replace h := b2 h
        obtain ⟨v8, σ9, e7, h⟩ := h
        refine kX1_X1meets Γ Ξ hRm (by decide) (by decide) e7 (Nat.le_of_ble_eq_true rfl) dX1_pool_36 ?_
        obtain ⟨rfl, rfl⟩ := inj2 h
        exact hret _ _ dX1_pool_39
      · replace h := it_f c h
        refine A_aload_n Γ dX1_pool_25 0 rfl ?_
        refine g1_6 Γ Ξ dX1_pool_26 ?_
        refine A_iload_n Γ dX1_pool_29 2 rfl ?_
        replace h := b1 h
        obtain ⟨v10, e11, h⟩ := h
        refine r1_6 Γ Ξ e11 dX1_pool_30 ?_
        refine A_if_ge (t := 40) Γ dX1_pool_31 (by decide) (fun c => ?_) (fun c => ?_)
        · replace h := it_t c h
          refine A_aload_n Γ dX1_pool_40 0 rfl ?_
          refine g1_6 Γ Ξ dX1_pool_41 ?_
          refine A_iload_n Γ dX1_pool_44 1 rfl ?_
          replace h := b1 h
          obtain ⟨v12, e13, h⟩ := h
          refine r1_6 Γ Ξ e13 dX1_pool_45 ?_
          refine A_bipush (v := 8) Γ dX1_pool_46 (by decide) ?_
          refine A_icmp_ne (t := 62) Γ dX1_pool_48 (by decide) (fun c => ?_) (fun c => ?_)
          · replace h := it_f c h
            refine A_aload_n Γ dX1_pool_62 0 rfl ?_
            refine A_iconst (v := 5) Γ dX1_pool_63 (by decide) ?_
            replace h := b2 h
            obtain ⟨v15, σ16, e14, h⟩ := h
            refine kX1_X1meets Γ Ξ hRm (by decide) (by decide) e14 (Nat.le_of_ble_eq_true rfl) dX1_pool_64 ?_
            obtain ⟨rfl, rfl⟩ := inj2 h
            exact hret _ _ dX1_pool_67
          · replace h := it_t c h
            refine A_aload_n Γ dX1_pool_51 0 rfl ?_
            refine g1_6 Γ Ξ dX1_pool_52 ?_
            refine A_iload_n Γ dX1_pool_55 2 rfl ?_
            replace h := b1 h
            obtain ⟨v17, e18, h⟩ := h
            refine r1_6 Γ Ξ e18 dX1_pool_56 ?_
            refine A_bipush (v := 8) Γ dX1_pool_57 (by decide) ?_
            refine A_icmp_eq (t := 68) Γ dX1_pool_59 (by decide) (fun c => ?_) (fun c => ?_)
            · replace h := it_t c h
              refine A_iconst (v := 0) Γ dX1_pool_68 (by decide) ?_
              refine A_istore_n (lv' := [(3, .int 0), (0, .ref (xo X)), (1, .int a1), (2, .int a2)]) Γ dX1_pool_69 (by decide) rfl ?_
              refine A_iconst (v := 0) Γ dX1_pool_70 (by decide) ?_
              refine A_istore (lv' := [(4, .int 0), (3, .int 0), (0, .ref (xo X)), (1, .int a1), (2, .int a2)]) Γ dX1_pool_71 (by decide) rfl ?_
              replace h := bR2 h
              obtain ⟨qqL19, eLL19, hsL19⟩ := h
              have hXL19 : ∀ (σ23 : St) (x24 : Int32), qqL19 = .inl (σ23, x24) → At G 8 σ23 [(0, .ref (xo X)), (3, .int x24)] [] 198 := by
                intro σ23 x24 e0
                rcases hsL19 with ⟨σ23z, x24z, e1, h⟩ | ⟨r1, e1, _⟩
                · cases e0.symm.trans e1
                  refine A_iconst (v := 0) Γ dX1_pool_198 (by decide) ?_
                  refine A_istore (lv' := [(4, .int 0), (0, .ref (xo X)), (3, .int x24)]) Γ dX1_pool_199 (by decide) rfl ?_
                  replace h := b1 h
                  obtain ⟨σ52, eLL49, h⟩ := h
                  have hXL49 : At G 8 σ52 [(0, .ref (xo X)), (3, .int x24)] [] 268 := by
                    refine A_iconst (v := 0) Γ dX1_pool_268 (by decide) ?_
                    refine A_istore (lv' := [(4, .int 0), (0, .ref (xo X)), (3, .int x24)]) Γ dX1_pool_269 (by decide) rfl ?_
                    refine A_aload_n Γ dX1_pool_271 1 rfl ?_
                    replace h := b2 h
                    obtain ⟨v63, σ64, e62, h⟩ := h
                    refine kX1_X1nextBrought Γ Ξ hRm (by decide) (by decide) e62 (Nat.le_of_ble_eq_true rfl) dX1_pool_272 ?_
                    refine A_istore (lv' := [(5, .int v63), (4, .int 0), (0, .ref (xo X)), (3, .int x24)]) Γ dX1_pool_275 (by decide) rfl ?_
                    replace h := b3 h
                    obtain ⟨σ70, x71, x72, eLL65, h⟩ := h
                    have hXL65 : At G 8 σ70 [(0, .ref (xo X)), (3, .int x71), (4, .int x72)] [] 413 := by
                      refine A_aload_n Γ dX1_pool_413 0 rfl ?_
                      refine A_iload Γ dX1_pool_414 2 rfl ?_
                      refine A_iload_n Γ dX1_pool_416 1 rfl ?_
                      replace h := b2 h
                      obtain ⟨v104, σ105, e103, h⟩ := h
                      refine kX1_X1ask Γ Ξ hRm (by decide) (by decide) e103 (Nat.le_of_ble_eq_true rfl) dX1_pool_417 ?_
                      obtain ⟨rfl, rfl⟩ := inj2 h
                      exact hret _ _ dX1_pool_420
                    replace eLL65 := lq4_ex eLL65
                    obtain ⟨nL65, eLL65⟩ := eLL65
                    have hLL65 : ∀ (nL65 : Nat) (σ66 : St) (x67 : Int32) (x68 : Int32) (x69 : Int32), lpf4 (m_pool_L65) nL65 σ66 x67 x68 x69 = some (σ70, x71, x72) → At G 8 σ66 [(0, .ref (xo X)), (3, .int x67), (4, .int x68), (5, .int x69)] [] 277 := by
                      intro nL65
                      induction nL65 with
                      | zero => intro σ66 x67 x68 x69 eL65; exact (lpf4_0 eL65).elim
                      | succ nL65 ihL65 =>
                        intro σ66 x67 x68 x69 eL65
                        replace eL65 := lpf4_s eL65
                        obtain ⟨qL65, eL65, hqL65⟩ := eL65
                        rw [m_pool_L65] at eL65
                        refine A_iload Γ dX1_pool_277 3 rfl ?_
                        refine A_if_lt (t := 413) Γ dX1_pool_279 (by decide) (fun c => ?_) (fun c => ?_)
                        · replace eL65 := it_t c eL65
                          obtain ⟨rfl, rfl, rfl⟩ := pr3 (lpx4 eL65 hqL65)
                          exact A_sub [0, 1, 2] rfl hXL65
                        · replace eL65 := it_f c eL65
                          refine A_iload Γ dX1_pool_282 2 rfl ?_
                          refine A_aload_n Γ dX1_pool_284 0 rfl ?_
                          refine g1_67 Γ Ξ dX1_pool_285 ?_
                          refine A_iload Γ dX1_pool_288 3 rfl ?_
                          replace eL65 := b1 eL65
                          obtain ⟨v73, e74, eL65⟩ := eL65
                          refine r1_67 Γ Ξ e74 dX1_pool_290 ?_
                          refine A_iadd Γ dX1_pool_291 ?_
                          refine A_istore (lv' := [(4, .int (x68 + v73)), (0, .ref (xo X)), (3, .int x67), (5, .int x69)]) Γ dX1_pool_292 (by decide) rfl ?_
                          refine A_iinc (v := x67 + (-1)) (lv' := [(3, .int (x67 + (-1))), (4, .int (x68 + v73)), (0, .ref (xo X)), (5, .int x69)]) Γ dX1_pool_294 2 rfl rfl (by decide) rfl ?_
                          refine A_aload_n Γ dX1_pool_297 2 rfl ?_
                          refine g1_65 Γ Ξ dX1_pool_298 ?_
                          refine A_iload Γ dX1_pool_301 3 rfl ?_
                          refine A_bipush (v := 8) Γ dX1_pool_303 (by decide) ?_
                          refine A_isub Γ dX1_pool_305 ?_
                          refine A_dup2 Γ dX1_pool_306 rfl rfl ?_
                          replace eL65 := b1 eL65
                          obtain ⟨v75, e76, eL65⟩ := eL65
                          refine r1_65 Γ Ξ e76 dX1_pool_307 ?_
                          refine A_iconst (v := 1) Γ dX1_pool_308 (by decide) ?_
                          refine A_isub Γ dX1_pool_309 ?_
                          replace eL65 := b1 eL65
                          obtain ⟨σ77, e78, eL65⟩ := eL65
                          refine w1_65 Γ Ξ e78 dX1_pool_310 ?_
                          refine A_iload Γ dX1_pool_311 3 rfl ?_
                          refine A_istore (lv' := [(6, .int x69), (3, .int (x67 + (-1))), (4, .int (x68 + v73)), (0, .ref (xo X)), (5, .int x69)]) Γ dX1_pool_313 (by decide) rfl ?_
                          replace eL65 := b2 eL65
                          obtain ⟨σ82, x83, eLL79, eL65⟩ := eL65
                          have hXL79 : At G 8 σ82 [(0, .ref (xo X)), (3, .int (x67 + (-1))), (4, .int (x68 + v73)), (6, .int x83)] [] 393 := by
                            refine A_aload_n Γ dX1_pool_393 0 rfl ?_
                            refine g1_64 Γ Ξ dX1_pool_394 ?_
                            refine A_iload Γ dX1_pool_397 3 rfl ?_
                            refine A_dup2 Γ dX1_pool_399 rfl rfl ?_
                            replace eL65 := b1 eL65
                            obtain ⟨v96, e97, eL65⟩ := eL65
                            refine r1_64 Γ Ξ e97 dX1_pool_400 ?_
                            refine A_iconst (v := 1) Γ dX1_pool_401 (by decide) ?_
                            refine A_isub Γ dX1_pool_402 ?_
                            replace eL65 := b1 eL65
                            obtain ⟨σ98, e99, eL65⟩ := eL65
                            refine w1_64 Γ Ξ e99 dX1_pool_403 ?_
                            refine A_aload_n Γ dX1_pool_404 0 rfl ?_
                            replace eL65 := b2 eL65
                            obtain ⟨v101, σ102, e100, eL65⟩ := eL65
                            refine kX1_X1nextBrought Γ Ξ hRm (by decide) (by decide) e100 (Nat.le_of_ble_eq_true rfl) dX1_pool_405 ?_
                            refine A_istore (lv' := [(5, .int v101), (0, .ref (xo X)), (3, .int (x67 + (-1))), (4, .int (x68 + v73)), (6, .int x83)]) Γ dX1_pool_408 (by decide) rfl ?_
                            refine A_goto (t := 277) Γ dX1_pool_410 (by decide) ?_
                            exact A_sub [1, 2, 3, 0] rfl (ihL65 _ _ _ _ (lpc4 eL65 hqL65))
                          replace eLL79 := lq2_ex eLL79
                          obtain ⟨nL79, eLL79⟩ := eLL79
                          have hLL79 : ∀ (nL79 : Nat) (σ80 : St) (x81 : Int32), lpf2 (m_pool_L79) nL79 σ80 x81 = some (σ82, x83) → At G 8 σ80 [(0, .ref (xo X)), (3, .int (x67 + (-1))), (4, .int (x68 + v73)), (6, .int x81)] [] 315 := by
                            intro nL79
                            induction nL79 with
                            | zero => intro σ80 x81 eL79; exact (lpf2_0 eL79).elim
                            | succ nL79 ihL79 =>
                              intro σ80 x81 eL79
                              replace eL79 := lpf2_s eL79
                              obtain ⟨qL79, eL79, hqL79⟩ := eL79
                              rw [m_pool_L79] at eL79
                              refine A_aload_n Γ dX1_pool_315 0 rfl ?_
                              refine g1_68 Γ Ξ dX1_pool_316 ?_
                              refine A_iload Γ dX1_pool_319 3 rfl ?_
                              replace eL79 := b1 eL79
                              obtain ⟨v84, e85, eL79⟩ := eL79
                              refine r1_68 Γ Ξ e85 dX1_pool_321 ?_
                              refine A_if_lt (t := 393) Γ dX1_pool_322 (by decide) (fun c => ?_) (fun c => ?_)
                              · replace eL79 := it_t c eL79
                                obtain ⟨rfl, rfl⟩ := pr2 (lpx2 eL79 hqL79)
                                exact A_sub [0, 1, 2, 3] rfl hXL79
                              · replace eL79 := it_f c eL79
                                refine A_aload_n Γ dX1_pool_325 0 rfl ?_
                                refine g1_68 Γ Ξ dX1_pool_326 ?_
                                refine A_iload Γ dX1_pool_329 3 rfl ?_
                                replace eL79 := b1 eL79
                                obtain ⟨v86, e87, eL79⟩ := eL79
                                refine r1_68 Γ Ξ e87 dX1_pool_331 ?_
                                refine A_istore (lv' := [(7, .int v86), (0, .ref (xo X)), (3, .int (x67 + (-1))), (4, .int (x68 + v73)), (6, .int x81)]) Γ dX1_pool_332 (by decide) rfl ?_
                                refine A_aload_n Γ dX1_pool_334 1 rfl ?_
                                refine g1_63 Γ Ξ dX1_pool_335 ?_
                                refine A_iload Γ dX1_pool_338 4 rfl ?_
                                refine A_bipush (v := 8) Γ dX1_pool_340 (by decide) ?_
                                replace eL79 := b1 eL79
                                obtain ⟨x89, eJ88, eL79⟩ := eL79
                                have hJJ88 : At G 8 σ80 [(0, .ref (xo X)), (3, .int (x67 + (-1))), (4, .int (x68 + v73)), (6, .int x81), (7, .int v86)] [.int x89, .ref (xad X 63)] 370 := by
                                  refine A_dup2 Γ dX1_pool_370 rfl rfl ?_
                                  replace eL79 := b1 eL79
                                  obtain ⟨v90, e91, eL79⟩ := eL79
                                  refine r1_63 Γ Ξ e91 dX1_pool_371 ?_
                                  refine A_iload Γ dX1_pool_372 3 rfl ?_
                                  refine A_bipush (v := 8) Γ dX1_pool_374 (by decide) ?_
                                  replace eL79 := b1 eL79
                                  obtain ⟨x93, eJ92, eL79⟩ := eL79
                                  have hJJ92 : At G 8 σ80 [(0, .ref (xo X)), (3, .int (x67 + (-1))), (4, .int (x68 + v73)), (7, .int v86)] [.int x93, .int v90, .int x89, .ref (xad X 63)] 384 := by
                                    refine A_iadd Γ dX1_pool_384 ?_
                                    replace eL79 := b1 eL79
                                    obtain ⟨σ94, e95, eL79⟩ := eL79
                                    refine w1_63 Γ Ξ e95 dX1_pool_385 ?_
                                    refine A_iload Γ dX1_pool_386 3 rfl ?_
                                    refine A_istore (lv' := [(6, .int v86), (0, .ref (xo X)), (3, .int (x67 + (-1))), (4, .int (x68 + v73)), (7, .int v86)]) Γ dX1_pool_388 (by decide) rfl ?_
                                    refine A_goto (t := 315) Γ dX1_pool_390 (by decide) ?_
                                    exact A_sub [1, 2, 3, 0] rfl (ihL79 _ _ (lpc2 eL79 hqL79))
                                  refine A_icmp_lt (t := 383) Γ dX1_pool_376 (by decide) (fun c => ?_) (fun c => ?_)
                                  · replace eJ92 := it_t c eJ92
                                    refine A_iconst (v := (-1)) Γ dX1_pool_383 (by decide) ?_
                                    obtain rfl := inj1 eJ92
                                    exact A_sub [0, 1, 2, 4] rfl hJJ92
                                  · replace eJ92 := it_f c eJ92
                                    refine A_iconst (v := 1) Γ dX1_pool_379 (by decide) ?_
                                    refine A_goto (t := 384) Γ dX1_pool_380 (by decide) ?_
                                    obtain rfl := inj1 eJ92
                                    exact A_sub [0, 1, 2, 4] rfl hJJ92
                                refine A_icmp_lt (t := 359) Γ dX1_pool_342 (by decide) (fun c => ?_) (fun c => ?_)
                                · replace eJ88 := it_t c eJ88
                                  refine A_bipush (v := 8) Γ dX1_pool_359 (by decide) ?_
                                  refine A_iload Γ dX1_pool_361 4 rfl ?_
                                  refine A_imul Γ dX1_pool_363 ?_
                                  refine A_iload Γ dX1_pool_364 0 rfl ?_
                                  refine A_iadd Γ dX1_pool_366 ?_
                                  refine A_bipush (v := 8) Γ dX1_pool_367 (by decide) ?_
                                  refine A_isub Γ dX1_pool_369 ?_
                                  obtain rfl := inj1 eJ88
                                  exact A_sub [1, 2, 3, 4, 0] rfl hJJ88
                                · replace eJ88 := it_f c eJ88
                                  refine A_bipush (v := 8) Γ dX1_pool_345 (by decide) ?_
                                  refine A_iload Γ dX1_pool_347 0 rfl ?_
                                  refine A_imul Γ dX1_pool_349 ?_
                                  refine A_iload Γ dX1_pool_350 4 rfl ?_
                                  refine A_iadd Γ dX1_pool_352 ?_
                                  refine A_bipush (v := 8) Γ dX1_pool_353 (by decide) ?_
                                  refine A_isub Γ dX1_pool_355 ?_
                                  refine A_goto (t := 370) Γ dX1_pool_356 (by decide) ?_
                                  obtain rfl := inj1 eJ88
                                  exact A_sub [1, 2, 3, 4, 0] rfl hJJ88
                          exact A_sub [3, 1, 2, 0] rfl (hLL79 _ _ _ eLL79)
                    exact A_sub [2, 3, 1, 0] rfl (hLL65 _ _ _ _ _ eLL65)
                  replace eLL49 := lq2_ex eLL49
                  obtain ⟨nL49, eLL49⟩ := eLL49
                  have hLL49 : ∀ (nL49 : Nat) (σ50 : St) (x51 : Int32), lpf2 (m_pool_L49) nL49 σ50 x51 = some σ52 → At G 8 σ50 [(0, .ref (xo X)), (3, .int x24), (4, .int x51)] [] 201 := by
                    intro nL49
                    induction nL49 with
                    | zero => intro σ50 x51 eL49; exact (lpf2_0 eL49).elim
                    | succ nL49 ihL49 =>
                      intro σ50 x51 eL49
                      replace eL49 := lpf2_s eL49
                      obtain ⟨qL49, eL49, hqL49⟩ := eL49
                      rw [m_pool_L49] at eL49
                      refine A_iload Γ dX1_pool_201 2 rfl ?_
                      refine A_bipush (v := 64) Γ dX1_pool_203 (by decide) ?_
                      refine A_icmp_ge (t := 268) Γ dX1_pool_205 (by decide) (fun c => ?_) (fun c => ?_)
                      · replace eL49 := it_t c eL49
                        obtain rfl := pr1 (lpx2 eL49 hqL49)
                        exact A_sub [0, 1] rfl hXL49
                      · replace eL49 := it_f c eL49
                        refine A_aload_n Γ dX1_pool_208 0 rfl ?_
                        refine g1_63 Γ Ξ dX1_pool_209 ?_
                        refine A_iload Γ dX1_pool_212 2 rfl ?_
                        refine A_iconst (v := 0) Γ dX1_pool_214 (by decide) ?_
                        replace eL49 := b1 eL49
                        obtain ⟨σ53, e54, eL49⟩ := eL49
                        refine w1_63 Γ Ξ e54 dX1_pool_215 ?_
                        refine A_aload_n Γ dX1_pool_216 0 rfl ?_
                        refine A_iload Γ dX1_pool_217 2 rfl ?_
                        refine A_bipush (v := 8) Γ dX1_pool_219 (by decide) ?_
                        refine A_idiv Γ dX1_pool_221 (by decide) ?_
                        refine A_aload_n Γ dX1_pool_222 0 rfl ?_
                        refine g1_5 Γ Ξ dX1_pool_223 ?_
                        refine A_iload Γ dX1_pool_226 2 rfl ?_
                        refine A_bipush (v := 8) Γ dX1_pool_228 (by decide) ?_
                        refine A_irem Γ dX1_pool_230 (by decide) ?_
                        replace eL49 := b2 eL49
                        obtain ⟨v56, σ57, e55, eL49⟩ := eL49
                        refine kX1_X1comesTo Γ Ξ hRm (by decide) (by decide) e55 (Nat.le_of_ble_eq_true rfl) dX1_pool_231 ?_
                        refine A_istore (lv' := [(5, .int v56), (0, .ref (xo X)), (3, .int x24), (4, .int x51)]) Γ dX1_pool_234 (by decide) rfl ?_
                        refine A_aload_n Γ dX1_pool_236 1 rfl ?_
                        refine g1_66 Γ Ξ dX1_pool_237 ?_
                        refine A_iload Γ dX1_pool_240 3 rfl ?_
                        refine A_iload Γ dX1_pool_242 0 rfl ?_
                        refine A_ldc (v := 100000000) Γ q1362 dX1_pool_244 ?_
                        replace eL49 := b1 eL49
                        obtain ⟨x59, eJ58, eL49⟩ := eL49
                        have hJJ58 : At G 8 σ57 [(0, .ref (xo X)), (3, .int x24), (4, .int x51)] [.int x59, .int x51, .ref (xad X 66)] 261 := by
                          replace eL49 := b1 eL49
                          obtain ⟨σ60, e61, eL49⟩ := eL49
                          refine w1_66 Γ Ξ e61 dX1_pool_261 ?_
                          refine A_iinc (v := x51 + 1) (lv' := [(4, .int (x51 + 1)), (0, .ref (xo X)), (3, .int x24)]) Γ dX1_pool_262 2 rfl rfl (by decide) rfl ?_
                          refine A_goto (t := 201) Γ dX1_pool_265 (by decide) ?_
                          exact A_sub [1, 2, 0] rfl (ihL49 _ _ (lpc2 eL49 hqL49))
                        refine A_icmp_ge (t := 259) Γ dX1_pool_246 (by decide) (fun c => ?_) (fun c => ?_)
                        · replace eJ58 := it_t c eJ58
                          refine A_ldc (v := 100000000) Γ q1362 dX1_pool_259 ?_
                          obtain rfl := inj1 eJ58
                          exact A_sub [1, 2, 3] rfl hJJ58
                        · replace eJ58 := it_f c eJ58
                          refine A_iload Γ dX1_pool_249 0 rfl ?_
                          refine A_aload_n Γ dX1_pool_251 1 rfl ?_
                          refine g1_5 Γ Ξ dX1_pool_252 ?_
                          refine A_isub Γ dX1_pool_255 ?_
                          refine A_goto (t := 261) Γ dX1_pool_256 (by decide) ?_
                          obtain rfl := inj1 eJ58
                          exact A_sub [1, 2, 3] rfl hJJ58
                  exact A_sub [1, 2, 0] rfl (hLL49 _ _ _ eLL49)
                · cases e0.symm.trans e1
              have hRtL19 : ∀ w : Int32 × St, qqL19 = .inr w → some w = some (r, σ') := by
                intro w e0
                rcases hsL19 with ⟨σ23z, x24z, e1, _⟩ | ⟨r1, e1, h9⟩
                · cases e0.symm.trans e1
                · cases e0.symm.trans e1; exact h9
              replace eLL19 := lq3_ex eLL19
              obtain ⟨nL19, eLL19⟩ := eLL19
              have hLL19 : ∀ (nL19 : Nat) (σ20 : St) (x21 : Int32) (x22 : Int32), lpf3 (m_pool_L19 a1 a2) nL19 σ20 x21 x22 = some qqL19 → At G 8 σ20 [(0, .ref (xo X)), (1, .int a1), (2, .int a2), (3, .int x21), (4, .int x22)] [] 73 := by
                intro nL19
                induction nL19 with
                | zero => intro σ20 x21 x22 eL19; exact (lpf3_0 eL19).elim
                | succ nL19 ihL19 =>
                  intro σ20 x21 x22 eL19
                  replace eL19 := lpf3_s eL19
                  obtain ⟨qL19, eL19, hqL19⟩ := eL19
                  rw [m_pool_L19] at eL19
                  refine A_iload Γ dX1_pool_73 4 rfl ?_
                  refine A_bipush (v := 8) Γ dX1_pool_75 (by decide) ?_
                  refine A_icmp_ge (t := 198) Γ dX1_pool_77 (by decide) (fun c => ?_) (fun c => ?_)
                  · replace eL19 := it_t c eL19
                    exact A_sub [0, 3] rfl (hXL19 _ _ (lpx3 eL19 hqL19).symm)
                  · replace eL19 := it_f c eL19
                    refine A_aload_n Γ dX1_pool_80 0 rfl ?_
                    refine g1_7 Γ Ξ dX1_pool_81 ?_
                    refine A_bipush (v := 40) Γ dX1_pool_84 (by decide) ?_
                    refine A_iload_n Γ dX1_pool_86 1 rfl ?_
                    refine A_imul Γ dX1_pool_87 ?_
                    refine A_iload Γ dX1_pool_88 4 rfl ?_
                    refine A_iadd Γ dX1_pool_90 ?_
                    replace eL19 := b1 eL19
                    obtain ⟨v25, e26, eL19⟩ := eL19
                    refine r1_7 Γ Ξ e26 dX1_pool_91 ?_
                    refine A_istore (lv' := [(5, .int v25), (0, .ref (xo X)), (1, .int a1), (2, .int a2), (3, .int x21), (4, .int x22)]) Γ dX1_pool_92 (by decide) rfl ?_
                    refine A_aload_n Γ dX1_pool_94 1 rfl ?_
                    refine g1_7 Γ Ξ dX1_pool_95 ?_
                    refine A_bipush (v := 40) Γ dX1_pool_98 (by decide) ?_
                    refine A_iload_n Γ dX1_pool_100 3 rfl ?_
                    refine A_imul Γ dX1_pool_101 ?_
                    refine A_iload Γ dX1_pool_102 5 rfl ?_
                    refine A_iadd Γ dX1_pool_104 ?_
                    replace eL19 := b1 eL19
                    obtain ⟨v27, e28, eL19⟩ := eL19
                    refine r1_7 Γ Ξ e28 dX1_pool_105 ?_
                    refine A_istore (lv' := [(6, .int v27), (5, .int v25), (0, .ref (xo X)), (1, .int a1), (2, .int a2), (3, .int x21), (4, .int x22)]) Γ dX1_pool_106 (by decide) rfl ?_
                    refine A_iload Γ dX1_pool_108 1 rfl ?_
                    refine A_iconst (v := 0) Γ dX1_pool_110 (by decide) ?_
                    refine A_bipush (v := 30) Γ dX1_pool_111 (by decide) ?_
                    replace eL19 := b1 eL19
                    obtain ⟨v30, e29, eL19⟩ := eL19
                    refine kX1_X1in Γ (kpX Ξ) hRm (by decide) (by decide) e29 (Nat.le_of_ble_eq_true rfl) dX1_pool_113 ?_
                    refine A_if_eq (t := 130) Γ dX1_pool_116 (by decide) (fun c => ?_) (fun c => ?_)
                    · replace eL19 := it_t c eL19
                      refine A_aload_n Γ dX1_pool_130 2 rfl ?_
                      refine A_iconst (v := 3) Γ dX1_pool_131 (by decide) ?_
                      replace eL19 := b2 eL19
                      obtain ⟨v32, σ33, e31, eL19⟩ := eL19
                      refine kX1_X1meets Γ Ξ hRm (by decide) (by decide) e31 (Nat.le_of_ble_eq_true rfl) dX1_pool_132 ?_
                      have rL19 := hRtL19 _ (lpx3 eL19 hqL19).symm
                      obtain ⟨rfl, rfl⟩ := inj2 rL19
                      exact hret _ _ dX1_pool_135
                    · replace eL19 := it_f c eL19
                      refine A_iload Γ dX1_pool_119 0 rfl ?_
                      refine A_iconst (v := 0) Γ dX1_pool_121 (by decide) ?_
                      refine A_bipush (v := 30) Γ dX1_pool_122 (by decide) ?_
                      replace eL19 := b1 eL19
                      obtain ⟨v35, e34, eL19⟩ := eL19
                      refine kX1_X1in Γ (kpX Ξ) hRm (by decide) (by decide) e34 (Nat.le_of_ble_eq_true rfl) dX1_pool_124 ?_
                      refine A_if_ne (t := 136) Γ dX1_pool_127 (by decide) (fun c => ?_) (fun c => ?_)
                      · replace eL19 := it_f c eL19
                        refine A_aload_n Γ dX1_pool_136 2 rfl ?_
                        refine g1_64 Γ Ξ dX1_pool_137 ?_
                        refine A_iload Γ dX1_pool_140 6 rfl ?_
                        refine A_iload Γ dX1_pool_142 1 rfl ?_
                        refine A_iload Γ dX1_pool_144 0 rfl ?_
                        replace eL19 := b1 eL19
                        obtain ⟨x37, eJ36, eL19⟩ := eL19
                        have hJJ36 : At G 8 σ20 [(0, .ref (xo X)), (1, .int a1), (2, .int a2), (3, .int x21), (4, .int x22), (5, .int v25), (6, .int v27)] [.int x37, .int x22, .ref (xad X 64)] 158 := by
                          replace eL19 := b1 eL19
                          obtain ⟨σ38, e39, eL19⟩ := eL19
                          refine w1_64 Γ Ξ e39 dX1_pool_158 ?_
                          refine A_aload_n Γ dX1_pool_159 0 rfl ?_
                          refine g1_65 Γ Ξ dX1_pool_160 ?_
                          refine A_iload Γ dX1_pool_163 4 rfl ?_
                          refine A_iload Γ dX1_pool_165 6 rfl ?_
                          refine A_iload Γ dX1_pool_167 5 rfl ?_
                          replace eL19 := b1 eL19
                          obtain ⟨x41, eJ40, eL19⟩ := eL19
                          have hJJ40 : At G 8 σ38 [(0, .ref (xo X)), (1, .int a1), (2, .int a2), (3, .int x21), (4, .int x22)] [.int x41, .int x22, .ref (xad X 65)] 181 := by
                            replace eL19 := b1 eL19
                            obtain ⟨σ42, e43, eL19⟩ := eL19
                            refine w1_65 Γ Ξ e43 dX1_pool_181 ?_
                            refine A_iload_n Γ dX1_pool_182 3 rfl ?_
                            refine A_aload_n Γ dX1_pool_183 0 rfl ?_
                            refine g1_65 Γ Ξ dX1_pool_184 ?_
                            refine A_iload Γ dX1_pool_187 4 rfl ?_
                            replace eL19 := b1 eL19
                            obtain ⟨v44, e45, eL19⟩ := eL19
                            refine r1_65 Γ Ξ e45 dX1_pool_189 ?_
                            refine A_iadd Γ dX1_pool_190 ?_
                            refine A_istore_n (lv' := [(3, .int (x21 + v44)), (0, .ref (xo X)), (1, .int a1), (2, .int a2), (4, .int x22)]) Γ dX1_pool_191 (by decide) rfl ?_
                            refine A_iinc (v := x22 + 1) (lv' := [(4, .int (x22 + 1)), (3, .int (x21 + v44)), (0, .ref (xo X)), (1, .int a1), (2, .int a2)]) Γ dX1_pool_192 4 rfl rfl (by decide) rfl ?_
                            refine A_goto (t := 73) Γ dX1_pool_195 (by decide) ?_
                            exact A_sub [2, 3, 4, 1, 0] rfl (ihL19 _ _ _ (lpc3 eL19 hqL19))
                          refine A_icmp_le (t := 180) Γ dX1_pool_169 (by decide) (fun c => ?_) (fun c => ?_)
                          · replace eJ40 := it_t c eJ40
                            refine A_iconst (v := 0) Γ dX1_pool_180 (by decide) ?_
                            obtain rfl := inj1 eJ40
                            exact A_sub [0, 1, 2, 3, 4] rfl hJJ40
                          · replace eJ40 := it_f c eJ40
                            refine A_iload Γ dX1_pool_172 6 rfl ?_
                            refine A_iload Γ dX1_pool_174 5 rfl ?_
                            refine A_isub Γ dX1_pool_176 ?_
                            refine A_goto (t := 181) Γ dX1_pool_177 (by decide) ?_
                            obtain rfl := inj1 eJ40
                            exact A_sub [0, 1, 2, 3, 4] rfl hJJ40
                        refine A_icmp_le (t := 157) Γ dX1_pool_146 (by decide) (fun c => ?_) (fun c => ?_)
                        · replace eJ36 := it_t c eJ36
                          refine A_iconst (v := 0) Γ dX1_pool_157 (by decide) ?_
                          obtain rfl := inj1 eJ36
                          exact A_sub [2, 3, 4, 5, 6, 1, 0] rfl hJJ36
                        · replace eJ36 := it_f c eJ36
                          refine A_iload Γ dX1_pool_149 1 rfl ?_
                          refine A_iload Γ dX1_pool_151 0 rfl ?_
                          refine A_isub Γ dX1_pool_153 ?_
                          refine A_goto (t := 158) Γ dX1_pool_154 (by decide) ?_
                          obtain rfl := inj1 eJ36
                          exact A_sub [2, 3, 4, 5, 6, 1, 0] rfl hJJ36
                      · replace eL19 := it_t c eL19
                        refine A_aload_n Γ dX1_pool_130 2 rfl ?_
                        refine A_iconst (v := 3) Γ dX1_pool_131 (by decide) ?_
                        replace eL19 := b2 eL19
                        obtain ⟨v47, σ48, e46, eL19⟩ := eL19
                        refine kX1_X1meets Γ Ξ hRm (by decide) (by decide) e46 (Nat.le_of_ble_eq_true rfl) dX1_pool_132 ?_
                        have rL19 := hRtL19 _ (lpx3 eL19 hqL19).symm
                        obtain ⟨rfl, rfl⟩ := inj2 rL19
                        exact hret _ _ dX1_pool_135
              exact A_sub [2, 3, 4, 1, 0] rfl (hLL19 _ _ _ _ eLL19)
            · replace h := it_f c h
              refine A_aload_n Γ dX1_pool_62 0 rfl ?_
              refine A_iconst (v := 5) Γ dX1_pool_63 (by decide) ?_
              replace h := b2 h
              obtain ⟨v107, σ108, e106, h⟩ := h
              refine kX1_X1meets Γ Ξ hRm (by decide) (by decide) e106 (Nat.le_of_ble_eq_true rfl) dX1_pool_64 ?_
              obtain ⟨rfl, rfl⟩ := inj2 h
              exact hret _ _ dX1_pool_67
        · replace h := it_f c h
          refine A_aload_n Γ dX1_pool_34 0 rfl ?_
          refine A_iconst (v := 1) Γ dX1_pool_35 (by decide) ?_
          replace h := b2 h
          obtain ⟨v110, σ111, e109, h⟩ := h
          refine kX1_X1meets Γ Ξ hRm (by decide) (by decide) e109 (Nat.le_of_ble_eq_true rfl) dX1_pool_36 ?_
          obtain ⟨rfl, rfl⟩ := inj2 h
          exact hret _ _ dX1_pool_39
    · replace h := it_t c h
      refine A_iconst (v := (-1)) Γ dX1_pool_14 (by decide) ?_
      obtain ⟨rfl, rfl⟩ := inj2 h
      exact hret _ _ dX1_pool_15
theorem mtX1_pool (l : Launch) (X : Xw) {σ σ' : St} {a1 : Int32} {a2 : Int32} {r : Int32} (h : m_pool σ a1 a2 = some (r, σ')) : MetZ 1 l X yX1_pool cX1_pool 8 (some .int) 2 51 [.ref (xo X), .int a1, .int a2] σ (some (.int r)) σ' := MetZ.ofAt (by decide) (Nat.le_of_ble_eq_true rfl) (fun G _ Γ Ξ hR hret => wkX1_pool Γ Ξ hR h hret)

set_option maxHeartbeats 4000000 in
set_option maxRecDepth 100000 in
theorem wkX1_costOf {G : Gx} {X : Xw} {σ : St} (Γ : Ok G RX1 cX1_costOf 9) (hkp : ∀ (H H1 : Heap), gP G σ H → (∀ q : Nat, q < H.size → H1[q]? = H[q]?) → gP G σ H1) (hRm : Rm G 0 0) {a0 : Int32} {a1 : Int32} {a2 : Int32} {a3 : Int32} {a4 : Int32} {a5 : Int32} {a6 : Int32} {r : Int64} (h : m_costOf a0 a1 a2 a3 a4 a5 a6 = some r) (hret : ∀ (pc : Nat) (lv : List (Nat × Value)), retIs cX1_costOf (some .long) (some (.long r)) pc → At G 9 σ lv [.long r] pc) : At G 9 σ [(0, .int a0), (1, .int a1), (2, .int a2), (3, .int a3), (4, .int a4), (5, .int a5), (6, .int a6)] [] 0 := by
  rw [m_costOf] at h
  refine A_iload_n Γ dX1_costOf_0 0 rfl ?_
  refine A_iload_n Γ dX1_costOf_1 1 rfl ?_
  replace h := b1 h
  obtain ⟨x2, eJ1, h⟩ := h
  have hJJ1 : At G 9 σ [(0, .int a0), (2, .int a2), (3, .int a3), (4, .int a4), (5, .int a5), (6, .int a6)] [.int x2] 12 := by
    refine A_istore (lv' := [(7, .int x2), (0, .int a0), (2, .int a2), (3, .int a3), (4, .int a4), (5, .int a5), (6, .int a6)]) Γ dX1_costOf_12 (by decide) rfl ?_
    refine A_iload_n Γ dX1_costOf_14 2 rfl ?_
    refine A_iload_n Γ dX1_costOf_15 3 rfl ?_
    refine A_iload_n Γ dX1_costOf_16 1 rfl ?_
    refine A_iadd Γ dX1_costOf_17 ?_
    replace h := b1 h
    obtain ⟨x4, eJ3, h⟩ := h
    have hJJ3 : At G 9 σ [(0, .int a0), (4, .int a4), (5, .int a5), (6, .int a6), (7, .int x2)] [.int x4] 30 := by
      refine A_istore (lv' := [(8, .int x4), (0, .int a0), (4, .int a4), (5, .int a5), (6, .int a6), (7, .int x2)]) Γ dX1_costOf_30 (by decide) rfl ?_
      refine A_iload Γ dX1_costOf_32 2 rfl ?_
      refine A_i2l Γ dX1_costOf_34 ?_
      refine A_iload_n Γ dX1_costOf_35 1 rfl ?_
      refine A_i2l Γ dX1_costOf_36 ?_
      refine A_lmul Γ dX1_costOf_37 ?_
      refine A_iload Γ dX1_costOf_38 3 rfl ?_
      refine A_i2l Γ dX1_costOf_40 ?_
      refine A_iload Γ dX1_costOf_41 5 rfl ?_
      refine A_i2l Γ dX1_costOf_43 ?_
      refine A_lmul Γ dX1_costOf_44 ?_
      refine A_ladd Γ dX1_costOf_45 ?_
      refine A_iload Γ dX1_costOf_46 4 rfl ?_
      refine A_i2l Γ dX1_costOf_48 ?_
      refine A_iload Γ dX1_costOf_49 0 rfl ?_
      refine A_i2l Γ dX1_costOf_51 ?_
      refine A_lmul Γ dX1_costOf_52 ?_
      refine A_ladd Γ dX1_costOf_53 ?_
      obtain rfl := inj1 h
      exact hret _ _ dX1_costOf_54
    refine A_icmp_le (t := 29) Γ dX1_costOf_18 (by decide) (fun c => ?_) (fun c => ?_)
    · replace eJ3 := it_t c eJ3
      refine A_iconst (v := 0) Γ dX1_costOf_29 (by decide) ?_
      obtain rfl := inj1 eJ3
      exact A_sub [1, 4, 5, 6, 0] rfl hJJ3
    · replace eJ3 := it_f c eJ3
      refine A_iload_n Γ dX1_costOf_21 2 rfl ?_
      refine A_iload_n Γ dX1_costOf_22 3 rfl ?_
      refine A_isub Γ dX1_costOf_23 ?_
      refine A_iload_n Γ dX1_costOf_24 1 rfl ?_
      refine A_isub Γ dX1_costOf_25 ?_
      refine A_goto (t := 30) Γ dX1_costOf_26 (by decide) ?_
      obtain rfl := inj1 eJ3
      exact A_sub [1, 4, 5, 6, 0] rfl hJJ3
  refine A_icmp_le (t := 11) Γ dX1_costOf_2 (by decide) (fun c => ?_) (fun c => ?_)
  · replace eJ1 := it_t c eJ1
    refine A_iconst (v := 0) Γ dX1_costOf_11 (by decide) ?_
    obtain rfl := inj1 eJ1
    exact A_sub [0, 2, 3, 4, 5, 6] rfl hJJ1
  · replace eJ1 := it_f c eJ1
    refine A_iload_n Γ dX1_costOf_5 0 rfl ?_
    refine A_iload_n Γ dX1_costOf_6 1 rfl ?_
    refine A_isub Γ dX1_costOf_7 ?_
    refine A_goto (t := 12) Γ dX1_costOf_8 (by decide) ?_
    obtain rfl := inj1 eJ1
    exact A_sub [0, 2, 3, 4, 5, 6] rfl hJJ1
theorem mtX1_costOf (l : Launch) {a0 : Int32} {a1 : Int32} {a2 : Int32} {a3 : Int32} {a4 : Int32} {a5 : Int32} {a6 : Int32} {r : Int64} (h : m_costOf a0 a1 a2 a3 a4 a5 a6 = some r) : MetS l yX1_costOf cX1_costOf 9 (some .long) 0 0 [.int a0, .int a1, .int a2, .int a3, .int a4, .int a5, .int a6] (some (.long r)) := MetS.ofAt ((fun _ => 0), (fun _ => 0), (fun _ _ => 0), (fun _ _ => 0), fun _ => none) (by decide) (Nat.le_of_ble_eq_true rfl) (fun G _ Γ hR hp hret => wkX1_costOf (X := (0, (fun _ => 0), (fun _ => 0), (fun _ _ => 0), (fun _ => 0), (fun _ => True))) Γ hp hR h hret)
theorem kX1_X1costOf {G : Gx} {cc : ByteArray} {nL pc F LO : Nat} {σ : St} {lv : List (Nat × Value)} {st : List Value} (Γ : Ok G RX1 cc nL) (hkp : ∀ (H H1 : Heap), gP G σ H → (∀ q : Nat, q < H.size → H1[q]? = H[q]?) → gP G σ H1) {a0 : Int32} {a1 : Int32} {a2 : Int32} {a3 : Int32} {a4 : Int32} {a5 : Int32} {a6 : Int32} {r : Int64} (hRm : Rm G F LO) (hf : 0 + 1 ≤ F) (hlo : 8 + (9 + 11) + 0 ≤ LO) (h : m_costOf a0 a1 a2 a3 a4 a5 a6 = some r) (hW : (st.map fun v => v.category).sum ≤ 8) (d : decode cc pc = .ok (.invokestatic 368, 3)) (kk : At G nL σ lv (.long r :: st) (pc + 3)) : At G nL σ lv (.int a6 :: .int a5 :: .int a4 :: .int a3 :: .int a2 :: .int a1 :: .int a0 :: st) pc := A_callS Γ hkp rfl (mtX1_costOf (gl G) h) (lw_S q1643 q1644 q64 q1645) (n := 7) (by decide +kernel) (rm_ok hRm hf hlo) (rm_k hRm) rfl rfl hW d kk
set_option maxHeartbeats 4000000 in
set_option maxRecDepth 100000 in
theorem wkX1_rent {G : Gx} {X : Xw} {σ σ' : St} (Γ : Ok G RX1 cX1_rent 14) (Ξ : OkX 1 G X) (hRm : Rm G 2 42) {a1 : Int32} {a2 : Int32} {a3 : Int32} {a4 : Int32} {a5 : Int32} {r : Int32} (h : m_rent σ a1 a2 a3 a4 a5 = some (r, σ')) (hret : ∀ (pc : Nat) (lv : List (Nat × Value)), retIs cX1_rent (some .int) (some (.int r)) pc → At G 14 σ' lv [.int r] pc) : At G 14 σ [(0, .ref (xo X)), (1, .int a1), (2, .int a2), (3, .int a3), (4, .int a4), (5, .int a5)] [] 0 := by
  rw [m_rent] at h
  refine A_iload_n Γ dX1_rent_0 1 rfl ?_
  replace h := b1 h
  obtain ⟨v2, e1, h⟩ := h
  refine kX1_X1isRow Γ (kpX Ξ) hRm (by decide) (by decide) e1 (Nat.le_of_ble_eq_true rfl) dX1_rent_1 ?_
  refine A_if_eq (t := 52) Γ dX1_rent_4 (by decide) (fun c => ?_) (fun c => ?_)
  · replace h := it_t c h
    refine A_iconst (v := (-1)) Γ dX1_rent_52 (by decide) ?_
    obtain ⟨rfl, rfl⟩ := inj2 h
    exact hret _ _ dX1_rent_53
  · replace h := it_f c h
    refine A_iload_n Γ dX1_rent_7 2 rfl ?_
    refine A_iconst (v := 0) Γ dX1_rent_8 (by decide) ?_
    refine A_bipush (v := 9) Γ dX1_rent_9 (by decide) ?_
    replace h := b1 h
    obtain ⟨v4, e3, h⟩ := h
    refine kX1_X1in Γ (kpX Ξ) hRm (by decide) (by decide) e3 (Nat.le_of_ble_eq_true rfl) dX1_rent_11 ?_
    refine A_if_eq (t := 52) Γ dX1_rent_14 (by decide) (fun c => ?_) (fun c => ?_)
    · replace h := it_t c h
      refine A_iconst (v := (-1)) Γ dX1_rent_52 (by decide) ?_
      obtain ⟨rfl, rfl⟩ := inj2 h
      exact hret _ _ dX1_rent_53
    · replace h := it_f c h
      refine A_iload_n Γ dX1_rent_17 3 rfl ?_
      refine A_iconst (v := 0) Γ dX1_rent_18 (by decide) ?_
      refine A_sipush (v := 1000) Γ dX1_rent_19 (by decide) ?_
      replace h := b1 h
      obtain ⟨v6, e5, h⟩ := h
      refine kX1_X1in Γ (kpX Ξ) hRm (by decide) (by decide) e5 (Nat.le_of_ble_eq_true rfl) dX1_rent_22 ?_
      refine A_if_eq (t := 52) Γ dX1_rent_25 (by decide) (fun c => ?_) (fun c => ?_)
      · replace h := it_t c h
        refine A_iconst (v := (-1)) Γ dX1_rent_52 (by decide) ?_
        obtain ⟨rfl, rfl⟩ := inj2 h
        exact hret _ _ dX1_rent_53
      · replace h := it_f c h
        refine A_iload Γ dX1_rent_28 4 rfl ?_
        refine A_iconst (v := 0) Γ dX1_rent_30 (by decide) ?_
        refine A_sipush (v := 1000) Γ dX1_rent_31 (by decide) ?_
        replace h := b1 h
        obtain ⟨v8, e7, h⟩ := h
        refine kX1_X1in Γ (kpX Ξ) hRm (by decide) (by decide) e7 (Nat.le_of_ble_eq_true rfl) dX1_rent_34 ?_
        refine A_if_eq (t := 52) Γ dX1_rent_37 (by decide) (fun c => ?_) (fun c => ?_)
        · replace h := it_t c h
          refine A_iconst (v := (-1)) Γ dX1_rent_52 (by decide) ?_
          obtain ⟨rfl, rfl⟩ := inj2 h
          exact hret _ _ dX1_rent_53
        · replace h := it_f c h
          refine A_iload Γ dX1_rent_40 5 rfl ?_
          refine A_iconst (v := 0) Γ dX1_rent_42 (by decide) ?_
          refine A_sipush (v := 1000) Γ dX1_rent_43 (by decide) ?_
          replace h := b1 h
          obtain ⟨v10, e9, h⟩ := h
          refine kX1_X1in Γ (kpX Ξ) hRm (by decide) (by decide) e9 (Nat.le_of_ble_eq_true rfl) dX1_rent_46 ?_
          refine A_if_ne (t := 54) Γ dX1_rent_49 (by decide) (fun c => ?_) (fun c => ?_)
          · replace h := it_f c h
            refine A_aload_n Γ dX1_rent_54 0 rfl ?_
            refine g1_6 Γ Ξ dX1_rent_55 ?_
            refine A_iload_n Γ dX1_rent_58 1 rfl ?_
            replace h := b1 h
            obtain ⟨v11, e12, h⟩ := h
            refine r1_6 Γ Ξ e12 dX1_rent_59 ?_
            refine A_if_ge (t := 69) Γ dX1_rent_60 (by decide) (fun c => ?_) (fun c => ?_)
            · replace h := it_t c h
              refine A_aload_n Γ dX1_rent_69 0 rfl ?_
              refine g1_6 Γ Ξ dX1_rent_70 ?_
              refine A_iload_n Γ dX1_rent_73 1 rfl ?_
              replace h := b1 h
              obtain ⟨v13, e14, h⟩ := h
              refine r1_6 Γ Ξ e14 dX1_rent_74 ?_
              refine A_istore (lv' := [(6, .int v13), (0, .ref (xo X)), (1, .int a1), (2, .int a2), (3, .int a3), (4, .int a4), (5, .int a5)]) Γ dX1_rent_75 (by decide) rfl ?_
              refine A_iload Γ dX1_rent_77 0 rfl ?_
              refine A_if_ne (t := 88) Γ dX1_rent_79 (by decide) (fun c => ?_) (fun c => ?_)
              · replace h := it_f c h
                refine A_iconst (v := 0) Γ dX1_rent_88 (by decide) ?_
                refine A_istore (lv' := [(7, .int 0), (6, .int v13), (0, .ref (xo X)), (1, .int a1), (2, .int a2), (3, .int a3), (4, .int a4), (5, .int a5)]) Γ dX1_rent_89 (by decide) rfl ?_
                replace h := bR1 h
                obtain ⟨qqL15, eLL15, hsL15⟩ := h
                have hXL15 : ∀ (u17 : Unit), qqL15 = .inl u17 → At G 14 σ [(0, .ref (xo X)), (1, .int a1), (2, .int a2), (3, .int a3), (4, .int a4), (5, .int a5), (6, .int v13)] [] 131 := by
                  intro u17 e0
                  rcases hsL15 with ⟨u17z, e1, h⟩ | ⟨r1, e1, _⟩
                  · cases e0.symm.trans e1
                    refine A_iconst (v := 0) Γ dX1_rent_131 (by decide) ?_
                    refine A_istore (lv' := [(7, .int 0), (0, .ref (xo X)), (1, .int a1), (2, .int a2), (3, .int a3), (4, .int a4), (5, .int a5), (6, .int v13)]) Γ dX1_rent_132 (by decide) rfl ?_
                    replace h := b1 h
                    obtain ⟨σ28, eLL25, h⟩ := h
                    have hXL25 : At G 14 σ28 [(0, .ref (xo X)), (1, .int a1), (2, .int a2), (3, .int a3), (4, .int a4), (5, .int a5), (6, .int v13)] [] 161 := by
                      refine A_iload Γ dX1_rent_161 6 rfl ?_
                      refine A_iconst (v := 1) Γ dX1_rent_163 (by decide) ?_
                      refine A_isub Γ dX1_rent_164 ?_
                      refine A_istore (lv' := [(7, .int (v13 - 1)), (0, .ref (xo X)), (1, .int a1), (2, .int a2), (3, .int a3), (4, .int a4), (5, .int a5), (6, .int v13)]) Γ dX1_rent_165 (by decide) rfl ?_
                      replace h := b1 h
                      obtain ⟨σ34, eLL31, h⟩ := h
                      have hXL31 : At G 14 σ34 [(0, .ref (xo X)), (1, .int a1), (2, .int a2), (3, .int a3), (4, .int a4), (5, .int a5), (6, .int v13)] [] 298 := by
                        refine A_aload_n Γ dX1_rent_298 0 rfl ?_
                        refine A_iload Γ dX1_rent_299 6 rfl ?_
                        refine p1_69 Γ Ξ dX1_rent_301 ?_
                        refine A_iconst (v := 0) Γ dX1_rent_304 (by decide) ?_
                        refine A_istore (lv' := [(7, .int 0), (0, .ref (xo X)), (1, .int a1), (2, .int a2), (3, .int a3), (4, .int a4), (5, .int a5), (6, .int v13)]) Γ dX1_rent_305 (by decide) rfl ?_
                        refine A_iconst (v := 0) Γ dX1_rent_307 (by decide) ?_
                        refine A_istore (lv' := [(8, .int 0), (7, .int 0), (0, .ref (xo X)), (1, .int a1), (2, .int a2), (3, .int a3), (4, .int a4), (5, .int a5), (6, .int v13)]) Γ dX1_rent_308 (by decide) rfl ?_
                        replace h := b1 h
                        obtain ⟨σ57, eLL53, h⟩ := h
                        have hXL53 : At G 14 σ57 [(0, .ref (xo X))] [] 404 := by
                          refine A_aload_n Γ dX1_rent_404 0 rfl ?_
                          refine g1_71 Γ Ξ dX1_rent_405 ?_
                          refine A_iconst (v := 0) Γ dX1_rent_408 (by decide) ?_
                          replace h := b1 h
                          obtain ⟨v71, e72, h⟩ := h
                          refine r1_71 Γ Ξ e72 dX1_rent_409 ?_
                          refine A_l2i Γ dX1_rent_410 ?_
                          obtain ⟨rfl, rfl⟩ := inj2 h
                          exact hret _ _ dX1_rent_411
                        replace eLL53 := lq3_ex eLL53
                        obtain ⟨nL53, eLL53⟩ := eLL53
                        have hLL53 : ∀ (nL53 : Nat) (σ54 : St) (x55 : Int32) (x56 : Int32), lpf3 (m_rent_L53 a1 a2 a3 a4 a5 v13) nL53 σ54 x55 x56 = some σ57 → At G 14 σ54 [(0, .ref (xo X)), (1, .int a1), (2, .int a2), (3, .int a3), (4, .int a4), (5, .int a5), (6, .int v13), (7, .int x55), (8, .int x56)] [] 310 := by
                          intro nL53
                          induction nL53 with
                          | zero => intro σ54 x55 x56 eL53; exact (lpf3_0 eL53).elim
                          | succ nL53 ihL53 =>
                            intro σ54 x55 x56 eL53
                            replace eL53 := lpf3_s eL53
                            obtain ⟨qL53, eL53, hqL53⟩ := eL53
                            rw [m_rent_L53] at eL53
                            refine A_iload Γ dX1_rent_310 8 rfl ?_
                            refine A_iload Γ dX1_rent_312 6 rfl ?_
                            refine A_icmp_ge (t := 404) Γ dX1_rent_314 (by decide) (fun c => ?_) (fun c => ?_)
                            · replace eL53 := it_t c eL53
                              obtain rfl := pr1 (lpx3 eL53 hqL53)
                              exact A_sub [0] rfl hXL53
                            · replace eL53 := it_f c eL53
                              refine A_iconst (v := 0) Γ dX1_rent_317 (by decide) ?_
                              refine A_istore (lv' := [(9, .int 0), (0, .ref (xo X)), (1, .int a1), (2, .int a2), (3, .int a3), (4, .int a4), (5, .int a5), (6, .int v13), (7, .int x55), (8, .int x56)]) Γ dX1_rent_318 (by decide) rfl ?_
                              replace eL53 := b1 eL53
                              obtain ⟨x60, eLL58, eL53⟩ := eL53
                              have hXL58 : At G 14 σ54 [(0, .ref (xo X)), (1, .int a1), (2, .int a2), (3, .int a3), (4, .int a4), (5, .int a5), (6, .int v13), (8, .int x56), (9, .int x60)] [] 385 := by
                                refine A_aload_n Γ dX1_rent_385 0 rfl ?_
                                refine g1_70 Γ Ξ dX1_rent_386 ?_
                                refine A_iload Γ dX1_rent_389 7 rfl ?_
                                refine A_iload Γ dX1_rent_391 8 rfl ?_
                                replace eL53 := b1 eL53
                                obtain ⟨σ69, e70, eL53⟩ := eL53
                                refine w1_70 Γ Ξ e70 dX1_rent_393 ?_
                                refine A_iload Γ dX1_rent_394 8 rfl ?_
                                refine A_istore (lv' := [(7, .int x60), (0, .ref (xo X)), (1, .int a1), (2, .int a2), (3, .int a3), (4, .int a4), (5, .int a5), (6, .int v13), (8, .int x56), (9, .int x60)]) Γ dX1_rent_396 (by decide) rfl ?_
                                refine A_iinc (v := x56 + 1) (lv' := [(8, .int (x56 + 1)), (7, .int x60), (0, .ref (xo X)), (1, .int a1), (2, .int a2), (3, .int a3), (4, .int a4), (5, .int a5), (6, .int v13), (9, .int x60)]) Γ dX1_rent_398 8 rfl rfl (by decide) rfl ?_
                                refine A_goto (t := 310) Γ dX1_rent_401 (by decide) ?_
                                exact A_sub [2, 3, 4, 5, 6, 7, 8, 1, 0] rfl (ihL53 _ _ _ (lpc3 eL53 hqL53))
                              replace eLL58 := lq1_ex eLL58
                              obtain ⟨nL58, eLL58⟩ := eLL58
                              have hLL58 : ∀ (nL58 : Nat) (x59 : Int32), lpf1 (m_rent_L58 a1 a2 a3 a4 a5 σ54 x55 x56) nL58 x59 = some x60 → At G 14 σ54 [(0, .ref (xo X)), (1, .int a1), (2, .int a2), (3, .int a3), (4, .int a4), (5, .int a5), (6, .int v13), (7, .int x55), (8, .int x56), (9, .int x59)] [] 320 := by
                                intro nL58
                                induction nL58 with
                                | zero => intro x59 eL58; exact (lpf1_0 eL58).elim
                                | succ nL58 ihL58 =>
                                  intro x59 eL58
                                  replace eL58 := lpf1_s eL58
                                  obtain ⟨qL58, eL58, hqL58⟩ := eL58
                                  rw [m_rent_L58] at eL58
                                  refine A_iload Γ dX1_rent_320 9 rfl ?_
                                  refine A_iload Γ dX1_rent_322 7 rfl ?_
                                  refine A_aload_n Γ dX1_rent_324 0 rfl ?_
                                  refine g1_7 Γ Ξ dX1_rent_325 ?_
                                  refine A_bipush (v := 40) Γ dX1_rent_328 (by decide) ?_
                                  refine A_iload_n Γ dX1_rent_330 1 rfl ?_
                                  refine A_imul Γ dX1_rent_331 ?_
                                  refine A_iload Γ dX1_rent_332 8 rfl ?_
                                  refine A_iadd Γ dX1_rent_334 ?_
                                  replace eL58 := b1 eL58
                                  obtain ⟨v61, e62, eL58⟩ := eL58
                                  refine r1_7 Γ Ξ e62 dX1_rent_335 ?_
                                  refine A_iload_n Γ dX1_rent_336 2 rfl ?_
                                  refine A_iload_n Γ dX1_rent_337 3 rfl ?_
                                  refine A_iload Γ dX1_rent_338 4 rfl ?_
                                  refine A_iload Γ dX1_rent_340 5 rfl ?_
                                  replace eL58 := b1 eL58
                                  obtain ⟨v64, e63, eL58⟩ := eL58
                                  refine kX1_X1costOf Γ (kpX Ξ) hRm (by decide) (by decide) e63 (Nat.le_of_ble_eq_true rfl) dX1_rent_342 ?_
                                  refine A_aload_n Γ dX1_rent_345 0 rfl ?_
                                  refine g1_71 Γ Ξ dX1_rent_346 ?_
                                  refine A_bipush (v := 10) Γ dX1_rent_349 (by decide) ?_
                                  refine A_iload Γ dX1_rent_351 8 rfl ?_
                                  refine A_imul Γ dX1_rent_353 ?_
                                  refine A_bipush (v := 10) Γ dX1_rent_354 (by decide) ?_
                                  refine A_iadd Γ dX1_rent_356 ?_
                                  refine A_iload Γ dX1_rent_357 9 rfl ?_
                                  refine A_iadd Γ dX1_rent_359 ?_
                                  replace eL58 := b1 eL58
                                  obtain ⟨v65, e66, eL58⟩ := eL58
                                  refine r1_71 Γ Ξ e66 dX1_rent_360 ?_
                                  refine A_ladd Γ dX1_rent_361 ?_
                                  refine A_aload_n Γ dX1_rent_362 0 rfl ?_
                                  refine g1_71 Γ Ξ dX1_rent_363 ?_
                                  refine A_bipush (v := 10) Γ dX1_rent_366 (by decide) ?_
                                  refine A_iload Γ dX1_rent_368 8 rfl ?_
                                  refine A_imul Γ dX1_rent_370 ?_
                                  refine A_iload Γ dX1_rent_371 7 rfl ?_
                                  refine A_iadd Γ dX1_rent_373 ?_
                                  replace eL58 := b1 eL58
                                  obtain ⟨v67, e68, eL58⟩ := eL58
                                  refine r1_71 Γ Ξ e68 dX1_rent_374 ?_
                                  refine A_lcmp Γ dX1_rent_375 ?_
                                  refine A_if_eq (t := 385) Γ dX1_rent_376 (by decide) (fun c => ?_) (fun c => ?_)
                                  · replace eL58 := it_t c eL58
                                    obtain rfl := pr1 (lpx1 eL58 hqL58)
                                    exact A_sub [0, 1, 2, 3, 4, 5, 6, 8, 9] rfl hXL58
                                  · replace eL58 := it_f c eL58
                                    refine A_iinc (v := x59 + 1) (lv' := [(9, .int (x59 + 1)), (0, .ref (xo X)), (1, .int a1), (2, .int a2), (3, .int a3), (4, .int a4), (5, .int a5), (6, .int v13), (7, .int x55), (8, .int x56)]) Γ dX1_rent_379 9 rfl rfl (by decide) rfl ?_
                                    refine A_goto (t := 320) Γ dX1_rent_382 (by decide) ?_
                                    exact A_sub [1, 2, 3, 4, 5, 6, 7, 8, 9, 0] rfl (ihL58 _ (lpc1 eL58 hqL58))
                              exact A_sub [1, 2, 3, 4, 5, 6, 7, 8, 9, 0] rfl (hLL58 _ _ eLL58)
                        exact A_sub [2, 3, 4, 5, 6, 7, 8, 1, 0] rfl (hLL53 _ _ _ _ eLL53)
                      replace eLL31 := lq2_ex eLL31
                      obtain ⟨nL31, eLL31⟩ := eLL31
                      have hLL31 : ∀ (nL31 : Nat) (σ32 : St) (x33 : Int32), lpf2 (m_rent_L31 a1 a2 a3 a4 a5) nL31 σ32 x33 = some σ34 → At G 14 σ32 [(0, .ref (xo X)), (1, .int a1), (2, .int a2), (3, .int a3), (4, .int a4), (5, .int a5), (6, .int v13), (7, .int x33)] [] 167 := by
                        intro nL31
                        induction nL31 with
                        | zero => intro σ32 x33 eL31; exact (lpf2_0 eL31).elim
                        | succ nL31 ihL31 =>
                          intro σ32 x33 eL31
                          replace eL31 := lpf2_s eL31
                          obtain ⟨qL31, eL31, hqL31⟩ := eL31
                          rw [m_rent_L31] at eL31
                          refine A_iload Γ dX1_rent_167 7 rfl ?_
                          refine A_if_lt (t := 298) Γ dX1_rent_169 (by decide) (fun c => ?_) (fun c => ?_)
                          · replace eL31 := it_t c eL31
                            obtain rfl := pr1 (lpx2 eL31 hqL31)
                            exact A_sub [0, 1, 2, 3, 4, 5, 6] rfl hXL31
                          · replace eL31 := it_f c eL31
                            refine A_iconst (v := 0) Γ dX1_rent_172 (by decide) ?_
                            refine A_istore (lv' := [(8, .int 0), (0, .ref (xo X)), (1, .int a1), (2, .int a2), (3, .int a3), (4, .int a4), (5, .int a5), (6, .int v13), (7, .int x33)]) Γ dX1_rent_173 (by decide) rfl ?_
                            replace eL31 := b1 eL31
                            obtain ⟨σ38, eLL35, eL31⟩ := eL31
                            have hXL35 : At G 14 σ38 [(0, .ref (xo X)), (1, .int a1), (2, .int a2), (3, .int a3), (4, .int a4), (5, .int a5), (6, .int v13), (7, .int x33)] [] 292 := by
                              refine A_iinc (v := x33 + (-1)) (lv' := [(7, .int (x33 + (-1))), (0, .ref (xo X)), (1, .int a1), (2, .int a2), (3, .int a3), (4, .int a4), (5, .int a5), (6, .int v13)]) Γ dX1_rent_292 7 rfl rfl (by decide) rfl ?_
                              refine A_goto (t := 167) Γ dX1_rent_295 (by decide) ?_
                              exact A_sub [1, 2, 3, 4, 5, 6, 7, 0] rfl (ihL31 _ _ (lpc2 eL31 hqL31))
                            replace eLL35 := lq2_ex eLL35
                            obtain ⟨nL35, eLL35⟩ := eLL35
                            have hLL35 : ∀ (nL35 : Nat) (σ36 : St) (x37 : Int32), lpf2 (m_rent_L35 a1 a2 a3 a4 a5 x33) nL35 σ36 x37 = some σ38 → At G 14 σ36 [(0, .ref (xo X)), (1, .int a1), (2, .int a2), (3, .int a3), (4, .int a4), (5, .int a5), (6, .int v13), (7, .int x33), (8, .int x37)] [] 175 := by
                              intro nL35
                              induction nL35 with
                              | zero => intro σ36 x37 eL35; exact (lpf2_0 eL35).elim
                              | succ nL35 ihL35 =>
                                intro σ36 x37 eL35
                                replace eL35 := lpf2_s eL35
                                obtain ⟨qL35, eL35, hqL35⟩ := eL35
                                rw [m_rent_L35] at eL35
                                refine A_iload Γ dX1_rent_175 8 rfl ?_
                                refine A_bipush (v := 10) Γ dX1_rent_177 (by decide) ?_
                                refine A_icmp_ge (t := 292) Γ dX1_rent_179 (by decide) (fun c => ?_) (fun c => ?_)
                                · replace eL35 := it_t c eL35
                                  obtain rfl := pr1 (lpx2 eL35 hqL35)
                                  exact A_sub [0, 1, 2, 3, 4, 5, 6, 7] rfl hXL35
                                · replace eL35 := it_f c eL35
                                  refine A_ldc2 (v := (-1)) Γ q1642 dX1_rent_182 ?_
                                  refine A_lstore (lv' := [(9, .long (-1)), (0, .ref (xo X)), (1, .int a1), (2, .int a2), (3, .int a3), (4, .int a4), (5, .int a5), (6, .int v13), (7, .int x33), (8, .int x37)]) Γ dX1_rent_185 (by decide) rfl ?_
                                  refine A_iconst (v := 0) Γ dX1_rent_187 (by decide) ?_
                                  refine A_istore (lv' := [(11, .int 0), (9, .long (-1)), (0, .ref (xo X)), (1, .int a1), (2, .int a2), (3, .int a3), (4, .int a4), (5, .int a5), (6, .int v13), (7, .int x33), (8, .int x37)]) Γ dX1_rent_188 (by decide) rfl ?_
                                  replace eL35 := b1 eL35
                                  obtain ⟨x42, eLL39, eL35⟩ := eL35
                                  have hXL39 : At G 14 σ36 [(0, .ref (xo X)), (1, .int a1), (2, .int a2), (3, .int a3), (4, .int a4), (5, .int a5), (6, .int v13), (7, .int x33), (8, .int x37), (9, .long x42)] [] 271 := by
                                    refine A_aload_n Γ dX1_rent_271 0 rfl ?_
                                    refine g1_71 Γ Ξ dX1_rent_272 ?_
                                    refine A_bipush (v := 10) Γ dX1_rent_275 (by decide) ?_
                                    refine A_iload Γ dX1_rent_277 7 rfl ?_
                                    refine A_imul Γ dX1_rent_279 ?_
                                    refine A_iload Γ dX1_rent_280 8 rfl ?_
                                    refine A_iadd Γ dX1_rent_282 ?_
                                    refine A_lload Γ dX1_rent_283 9 rfl ?_
                                    replace eL35 := b1 eL35
                                    obtain ⟨σ51, e52, eL35⟩ := eL35
                                    refine w1_71 Γ Ξ e52 dX1_rent_285 ?_
                                    refine A_iinc (v := x37 + 1) (lv' := [(8, .int (x37 + 1)), (0, .ref (xo X)), (1, .int a1), (2, .int a2), (3, .int a3), (4, .int a4), (5, .int a5), (6, .int v13), (7, .int x33), (9, .long x42)]) Γ dX1_rent_286 8 rfl rfl (by decide) rfl ?_
                                    refine A_goto (t := 175) Γ dX1_rent_289 (by decide) ?_
                                    exact A_sub [1, 2, 3, 4, 5, 6, 7, 8, 0] rfl (ihL35 _ _ (lpc2 eL35 hqL35))
                                  replace eLL39 := lq2_ex eLL39
                                  obtain ⟨nL39, eLL39⟩ := eLL39
                                  have hLL39 : ∀ (nL39 : Nat) (x40 : Int64) (x41 : Int32), lpf2 (m_rent_L39 a1 a2 a3 a4 a5 x33 σ36 x37) nL39 x40 x41 = some x42 → At G 14 σ36 [(0, .ref (xo X)), (1, .int a1), (2, .int a2), (3, .int a3), (4, .int a4), (5, .int a5), (6, .int v13), (7, .int x33), (8, .int x37), (9, .long x40), (11, .int x41)] [] 190 := by
                                    intro nL39
                                    induction nL39 with
                                    | zero => intro x40 x41 eL39; exact (lpf2_0 eL39).elim
                                    | succ nL39 ihL39 =>
                                      intro x40 x41 eL39
                                      replace eL39 := lpf2_s eL39
                                      obtain ⟨qL39, eL39, hqL39⟩ := eL39
                                      rw [m_rent_L39] at eL39
                                      refine A_iload Γ dX1_rent_190 10 rfl ?_
                                      refine A_bipush (v := 10) Γ dX1_rent_192 (by decide) ?_
                                      refine A_icmp_ge (t := 271) Γ dX1_rent_194 (by decide) (fun c => ?_) (fun c => ?_)
                                      · replace eL39 := it_t c eL39
                                        obtain rfl := pr1 (lpx2 eL39 hqL39)
                                        exact A_sub [0, 1, 2, 3, 4, 5, 6, 7, 8, 9] rfl hXL39
                                      · replace eL39 := it_f c eL39
                                        refine A_iload Γ dX1_rent_197 10 rfl ?_
                                        refine A_iload Γ dX1_rent_199 8 rfl ?_
                                        refine A_aload_n Γ dX1_rent_201 0 rfl ?_
                                        refine g1_7 Γ Ξ dX1_rent_202 ?_
                                        refine A_bipush (v := 40) Γ dX1_rent_205 (by decide) ?_
                                        refine A_iload_n Γ dX1_rent_207 1 rfl ?_
                                        refine A_imul Γ dX1_rent_208 ?_
                                        refine A_iload Γ dX1_rent_209 7 rfl ?_
                                        refine A_iadd Γ dX1_rent_211 ?_
                                        replace eL39 := b1 eL39
                                        obtain ⟨v43, e44, eL39⟩ := eL39
                                        refine r1_7 Γ Ξ e44 dX1_rent_212 ?_
                                        refine A_iload_n Γ dX1_rent_213 2 rfl ?_
                                        refine A_iload_n Γ dX1_rent_214 3 rfl ?_
                                        refine A_iload Γ dX1_rent_215 4 rfl ?_
                                        refine A_iload Γ dX1_rent_217 5 rfl ?_
                                        replace eL39 := b1 eL39
                                        obtain ⟨v46, e45, eL39⟩ := eL39
                                        refine kX1_X1costOf Γ (kpX Ξ) hRm (by decide) (by decide) e45 (Nat.le_of_ble_eq_true rfl) dX1_rent_219 ?_
                                        refine A_aload_n Γ dX1_rent_222 0 rfl ?_
                                        refine g1_71 Γ Ξ dX1_rent_223 ?_
                                        refine A_bipush (v := 10) Γ dX1_rent_226 (by decide) ?_
                                        refine A_iload Γ dX1_rent_228 7 rfl ?_
                                        refine A_imul Γ dX1_rent_230 ?_
                                        refine A_bipush (v := 10) Γ dX1_rent_231 (by decide) ?_
                                        refine A_iadd Γ dX1_rent_233 ?_
                                        refine A_iload Γ dX1_rent_234 10 rfl ?_
                                        refine A_iadd Γ dX1_rent_236 ?_
                                        replace eL39 := b1 eL39
                                        obtain ⟨v47, e48, eL39⟩ := eL39
                                        refine r1_71 Γ Ξ e48 dX1_rent_237 ?_
                                        refine A_ladd Γ dX1_rent_238 ?_
                                        refine A_lstore (lv' := [(12, .long (v46 + v47)), (0, .ref (xo X)), (1, .int a1), (2, .int a2), (3, .int a3), (4, .int a4), (5, .int a5), (6, .int v13), (7, .int x33), (8, .int x37), (9, .long x40), (11, .int x41)]) Γ dX1_rent_239 (by decide) rfl ?_
                                        refine A_lload Γ dX1_rent_241 10 rfl ?_
                                        refine A_lconst (v := 0) Γ dX1_rent_243 (by decide) ?_
                                        refine A_lcmp Γ dX1_rent_244 ?_
                                        replace eL39 := b1 eL39
                                        obtain ⟨x50, eJ49, eL39⟩ := eL39
                                        have hJJ49 : At G 14 σ36 [(0, .ref (xo X)), (1, .int a1), (2, .int a2), (3, .int a3), (4, .int a4), (5, .int a5), (6, .int v13), (7, .int x33), (8, .int x37), (11, .int x41)] [.long x50] 263 := by
                                          refine A_lstore (lv' := [(9, .long x50), (0, .ref (xo X)), (1, .int a1), (2, .int a2), (3, .int a3), (4, .int a4), (5, .int a5), (6, .int v13), (7, .int x33), (8, .int x37), (11, .int x41)]) Γ dX1_rent_263 (by decide) rfl ?_
                                          refine A_iinc (v := x41 + 1) (lv' := [(11, .int (x41 + 1)), (9, .long x50), (0, .ref (xo X)), (1, .int a1), (2, .int a2), (3, .int a3), (4, .int a4), (5, .int a5), (6, .int v13), (7, .int x33), (8, .int x37)]) Γ dX1_rent_265 10 rfl rfl (by decide) rfl ?_
                                          refine A_goto (t := 190) Γ dX1_rent_268 (by decide) ?_
                                          exact A_sub [2, 3, 4, 5, 6, 7, 8, 9, 10, 1, 0] rfl (ihL39 _ _ (lpc2 eL39 hqL39))
                                        refine A_if_lt (t := 256) Γ dX1_rent_245 (by decide) (fun c => ?_) (fun c => ?_)
                                        · replace eJ49 := it_t c eJ49
                                          refine A_lload Γ dX1_rent_256 0 rfl ?_
                                          refine A_goto (t := 263) Γ dX1_rent_258 (by decide) ?_
                                          obtain rfl := inj1 eJ49
                                          exact A_sub [1, 2, 3, 4, 5, 6, 7, 8, 9, 11] rfl hJJ49
                                        · replace eJ49 := it_f c eJ49
                                          refine A_lload Γ dX1_rent_248 0 rfl ?_
                                          refine A_lload Γ dX1_rent_250 10 rfl ?_
                                          refine A_lcmp Γ dX1_rent_252 ?_
                                          refine A_if_ge (t := 261) Γ dX1_rent_253 (by decide) (fun c => ?_) (fun c => ?_)
                                          · replace eJ49 := it_t c eJ49
                                            refine A_lload Γ dX1_rent_261 10 rfl ?_
                                            obtain rfl := inj1 eJ49
                                            exact A_sub [1, 2, 3, 4, 5, 6, 7, 8, 9, 11] rfl hJJ49
                                          · replace eJ49 := it_f c eJ49
                                            refine A_lload Γ dX1_rent_256 0 rfl ?_
                                            refine A_goto (t := 263) Γ dX1_rent_258 (by decide) ?_
                                            obtain rfl := inj1 eJ49
                                            exact A_sub [1, 2, 3, 4, 5, 6, 7, 8, 9, 11] rfl hJJ49
                                  exact A_sub [2, 3, 4, 5, 6, 7, 8, 9, 10, 1, 0] rfl (hLL39 _ _ _ eLL39)
                            exact A_sub [1, 2, 3, 4, 5, 6, 7, 8, 0] rfl (hLL35 _ _ _ eLL35)
                      exact A_sub [1, 2, 3, 4, 5, 6, 7, 0] rfl (hLL31 _ _ _ eLL31)
                    replace eLL25 := lq2_ex eLL25
                    obtain ⟨nL25, eLL25⟩ := eLL25
                    have hLL25 : ∀ (nL25 : Nat) (σ26 : St) (x27 : Int32), lpf2 (m_rent_L25 v13) nL25 σ26 x27 = some σ28 → At G 14 σ26 [(0, .ref (xo X)), (1, .int a1), (2, .int a2), (3, .int a3), (4, .int a4), (5, .int a5), (6, .int v13), (7, .int x27)] [] 134 := by
                      intro nL25
                      induction nL25 with
                      | zero => intro σ26 x27 eL25; exact (lpf2_0 eL25).elim
                      | succ nL25 ihL25 =>
                        intro σ26 x27 eL25
                        replace eL25 := lpf2_s eL25
                        obtain ⟨qL25, eL25, hqL25⟩ := eL25
                        rw [m_rent_L25] at eL25
                        refine A_iload Γ dX1_rent_134 7 rfl ?_
                        refine A_bipush (v := 10) Γ dX1_rent_136 (by decide) ?_
                        refine A_icmp_ge (t := 161) Γ dX1_rent_138 (by decide) (fun c => ?_) (fun c => ?_)
                        · replace eL25 := it_t c eL25
                          obtain rfl := pr1 (lpx2 eL25 hqL25)
                          exact A_sub [0, 1, 2, 3, 4, 5, 6] rfl hXL25
                        · replace eL25 := it_f c eL25
                          refine A_aload_n Γ dX1_rent_141 0 rfl ?_
                          refine g1_71 Γ Ξ dX1_rent_142 ?_
                          refine A_bipush (v := 10) Γ dX1_rent_145 (by decide) ?_
                          refine A_iload Γ dX1_rent_147 6 rfl ?_
                          refine A_imul Γ dX1_rent_149 ?_
                          refine A_iload Γ dX1_rent_150 7 rfl ?_
                          refine A_iadd Γ dX1_rent_152 ?_
                          refine A_lconst (v := 0) Γ dX1_rent_153 (by decide) ?_
                          replace eL25 := b1 eL25
                          obtain ⟨σ29, e30, eL25⟩ := eL25
                          refine w1_71 Γ Ξ e30 dX1_rent_154 ?_
                          refine A_iinc (v := x27 + 1) (lv' := [(7, .int (x27 + 1)), (0, .ref (xo X)), (1, .int a1), (2, .int a2), (3, .int a3), (4, .int a4), (5, .int a5), (6, .int v13)]) Γ dX1_rent_155 7 rfl rfl (by decide) rfl ?_
                          refine A_goto (t := 134) Γ dX1_rent_158 (by decide) ?_
                          exact A_sub [1, 2, 3, 4, 5, 6, 7, 0] rfl (ihL25 _ _ (lpc2 eL25 hqL25))
                    exact A_sub [1, 2, 3, 4, 5, 6, 7, 0] rfl (hLL25 _ _ _ eLL25)
                  · cases e0.symm.trans e1
                have hRtL15 : ∀ w : Int32 × St, qqL15 = .inr w → some w = some (r, σ') := by
                  intro w e0
                  rcases hsL15 with ⟨u17z, e1, _⟩ | ⟨r1, e1, h9⟩
                  · cases e0.symm.trans e1
                  · cases e0.symm.trans e1; exact h9
                replace eLL15 := lq1_ex eLL15
                obtain ⟨nL15, eLL15⟩ := eLL15
                have hLL15 : ∀ (nL15 : Nat) (x16 : Int32), lpf1 (m_rent_L15 σ a1 v13) nL15 x16 = some qqL15 → At G 14 σ [(0, .ref (xo X)), (1, .int a1), (2, .int a2), (3, .int a3), (4, .int a4), (5, .int a5), (6, .int v13), (7, .int x16)] [] 91 := by
                  intro nL15
                  induction nL15 with
                  | zero => intro x16 eL15; exact (lpf1_0 eL15).elim
                  | succ nL15 ihL15 =>
                    intro x16 eL15
                    replace eL15 := lpf1_s eL15
                    obtain ⟨qL15, eL15, hqL15⟩ := eL15
                    rw [m_rent_L15] at eL15
                    refine A_iload Γ dX1_rent_91 7 rfl ?_
                    refine A_iload Γ dX1_rent_93 6 rfl ?_
                    refine A_icmp_ge (t := 131) Γ dX1_rent_95 (by decide) (fun c => ?_) (fun c => ?_)
                    · replace eL15 := it_t c eL15
                      exact A_sub [0, 1, 2, 3, 4, 5, 6] rfl (hXL15 _ (lpx1 eL15 hqL15).symm)
                    · replace eL15 := it_f c eL15
                      refine A_aload_n Γ dX1_rent_98 0 rfl ?_
                      refine g1_7 Γ Ξ dX1_rent_99 ?_
                      refine A_bipush (v := 40) Γ dX1_rent_102 (by decide) ?_
                      refine A_iload_n Γ dX1_rent_104 1 rfl ?_
                      refine A_imul Γ dX1_rent_105 ?_
                      refine A_iload Γ dX1_rent_106 7 rfl ?_
                      refine A_iadd Γ dX1_rent_108 ?_
                      replace eL15 := b1 eL15
                      obtain ⟨v18, e19, eL15⟩ := eL15
                      refine r1_7 Γ Ξ e19 dX1_rent_109 ?_
                      refine A_iconst (v := 0) Γ dX1_rent_110 (by decide) ?_
                      refine A_bipush (v := 9) Γ dX1_rent_111 (by decide) ?_
                      replace eL15 := b1 eL15
                      obtain ⟨v21, e20, eL15⟩ := eL15
                      refine kX1_X1in Γ (kpX Ξ) hRm (by decide) (by decide) e20 (Nat.le_of_ble_eq_true rfl) dX1_rent_113 ?_
                      refine A_if_ne (t := 125) Γ dX1_rent_116 (by decide) (fun c => ?_) (fun c => ?_)
                      · replace eL15 := it_f c eL15
                        refine A_iinc (v := x16 + 1) (lv' := [(7, .int (x16 + 1)), (0, .ref (xo X)), (1, .int a1), (2, .int a2), (3, .int a3), (4, .int a4), (5, .int a5), (6, .int v13)]) Γ dX1_rent_125 7 rfl rfl (by decide) rfl ?_
                        refine A_goto (t := 91) Γ dX1_rent_128 (by decide) ?_
                        exact A_sub [1, 2, 3, 4, 5, 6, 7, 0] rfl (ihL15 _ (lpc1 eL15 hqL15))
                      · replace eL15 := it_t c eL15
                        refine A_aload_n Γ dX1_rent_119 0 rfl ?_
                        refine A_iconst (v := 3) Γ dX1_rent_120 (by decide) ?_
                        replace eL15 := b2 eL15
                        obtain ⟨v23, σ24, e22, eL15⟩ := eL15
                        refine kX1_X1meets Γ Ξ hRm (by decide) (by decide) e22 (Nat.le_of_ble_eq_true rfl) dX1_rent_121 ?_
                        have rL15 := hRtL15 _ (lpx1 eL15 hqL15).symm
                        obtain ⟨rfl, rfl⟩ := inj2 rL15
                        exact hret _ _ dX1_rent_124
                exact A_sub [2, 3, 4, 5, 6, 7, 1, 0] rfl (hLL15 _ _ eLL15)
              · replace h := it_t c h
                refine A_aload_n Γ dX1_rent_82 1 rfl ?_
                refine A_iconst (v := 5) Γ dX1_rent_83 (by decide) ?_
                replace h := b2 h
                obtain ⟨v74, σ75, e73, h⟩ := h
                refine kX1_X1meets Γ Ξ hRm (by decide) (by decide) e73 (Nat.le_of_ble_eq_true rfl) dX1_rent_84 ?_
                obtain ⟨rfl, rfl⟩ := inj2 h
                exact hret _ _ dX1_rent_87
            · replace h := it_f c h
              refine A_aload_n Γ dX1_rent_63 0 rfl ?_
              refine A_iconst (v := 1) Γ dX1_rent_64 (by decide) ?_
              replace h := b2 h
              obtain ⟨v77, σ78, e76, h⟩ := h
              refine kX1_X1meets Γ Ξ hRm (by decide) (by decide) e76 (Nat.le_of_ble_eq_true rfl) dX1_rent_65 ?_
              obtain ⟨rfl, rfl⟩ := inj2 h
              exact hret _ _ dX1_rent_68
          · replace h := it_t c h
            refine A_iconst (v := (-1)) Γ dX1_rent_52 (by decide) ?_
            obtain ⟨rfl, rfl⟩ := inj2 h
            exact hret _ _ dX1_rent_53
theorem mtX1_rent (l : Launch) (X : Xw) {σ σ' : St} {a1 : Int32} {a2 : Int32} {a3 : Int32} {a4 : Int32} {a5 : Int32} {r : Int32} (h : m_rent σ a1 a2 a3 a4 a5 = some (r, σ')) : MetZ 1 l X yX1_rent cX1_rent 14 (some .int) 2 42 [.ref (xo X), .int a1, .int a2, .int a3, .int a4, .int a5] σ (some (.int r)) σ' := MetZ.ofAt (by decide) (Nat.le_of_ble_eq_true rfl) (fun G _ Γ Ξ hR hret => wkX1_rent Γ Ξ hR h hret)

set_option maxHeartbeats 4000000 in
set_option maxRecDepth 100000 in
theorem wkX1_rented {G : Gx} {X : Xw} {σ : St} (Γ : Ok G RX1 cX1_rented 2) (Ξ : OkX 1 G X) (hRm : Rm G 1 22) {a1 : Int32} {r : Int32} (h : m_rented σ a1 = some r) (hret : ∀ (pc : Nat) (lv : List (Nat × Value)), retIs cX1_rented (some .int) (some (.int r)) pc → At G 2 σ lv [.int r] pc) : At G 2 σ [(0, .ref (xo X)), (1, .int a1)] [] 0 := by
  rw [m_rented] at h
  refine A_iload_n Γ dX1_rented_0 1 rfl ?_
  refine A_iconst (v := 0) Γ dX1_rented_1 (by decide) ?_
  refine A_aload_n Γ dX1_rented_2 0 rfl ?_
  refine g1_69 Γ Ξ dX1_rented_3 ?_
  refine A_iconst (v := 1) Γ dX1_rented_6 (by decide) ?_
  refine A_isub Γ dX1_rented_7 ?_
  replace h := b1 h
  obtain ⟨v2, e1, h⟩ := h
  refine kX1_X1in Γ (kpX Ξ) hRm (by decide) (by decide) e1 (Nat.le_of_ble_eq_true rfl) dX1_rented_8 ?_
  replace h := b1 h
  obtain ⟨x4, eJ3, h⟩ := h
  have hJJ3 : At G 2 σ [] [.int x4] 25 := by
    obtain rfl := inj1 h
    exact hret _ _ dX1_rented_25
  refine A_if_eq (t := 23) Γ dX1_rented_11 (by decide) (fun c => ?_) (fun c => ?_)
  · replace eJ3 := it_t c eJ3
    refine A_bipush (v := (-9)) Γ dX1_rented_23 (by decide) ?_
    obtain rfl := inj1 eJ3
    exact A_sub [] rfl hJJ3
  · replace eJ3 := it_f c eJ3
    refine A_aload_n Γ dX1_rented_14 0 rfl ?_
    refine g1_70 Γ Ξ dX1_rented_15 ?_
    refine A_iload_n Γ dX1_rented_18 1 rfl ?_
    replace eJ3 := b1 eJ3
    obtain ⟨v5, e6, eJ3⟩ := eJ3
    refine r1_70 Γ Ξ e6 dX1_rented_19 ?_
    refine A_goto (t := 25) Γ dX1_rented_20 (by decide) ?_
    obtain rfl := inj1 eJ3
    exact A_sub [] rfl hJJ3
theorem mtX1_rented (l : Launch) (X : Xw) {σ : St} {a1 : Int32} {r : Int32} (h : m_rented σ a1 = some r) : MetZ 1 l X yX1_rented cX1_rented 2 (some .int) 1 22 [.ref (xo X), .int a1] σ (some (.int r)) σ := MetZ.ofAt (by decide) (Nat.le_of_ble_eq_true rfl) (fun G _ Γ Ξ hR hret => wkX1_rented Γ Ξ hR h hret)

set_option maxHeartbeats 4000000 in
set_option maxRecDepth 100000 in
theorem wkX1_asked {G : Gx} {X : Xw} {σ : St} (Γ : Ok G RX1 cX1_asked 1) (Ξ : OkX 1 G X) (hRm : Rm G 0 0)  {r : Int32} (h : m_asked σ = some r) (hret : ∀ (pc : Nat) (lv : List (Nat × Value)), retIs cX1_asked (some .int) (some (.int r)) pc → At G 1 σ lv [.int r] pc) : At G 1 σ [(0, .ref (xo X))] [] 0 := by
  rw [m_asked] at h
  refine A_aload_n Γ dX1_asked_0 0 rfl ?_
  refine g1_2 Γ Ξ dX1_asked_1 ?_
  obtain rfl := inj1 h
  exact hret _ _ dX1_asked_4
theorem mtX1_asked (l : Launch) (X : Xw) {σ : St}  {r : Int32} (h : m_asked σ = some r) : MetZ 1 l X yX1_asked cX1_asked 1 (some .int) 0 0 [.ref (xo X)] σ (some (.int r)) σ := MetZ.ofAt (by decide) (Nat.le_of_ble_eq_true rfl) (fun G _ Γ Ξ hR hret => wkX1_asked Γ Ξ hR h hret)

set_option maxHeartbeats 4000000 in
set_option maxRecDepth 100000 in
theorem wkX1_upper {G : Gx} {X : Xw} {σ : St} (Γ : Ok G RX1 cX1_upper 1) (Ξ : OkX 1 G X) (hRm : Rm G 0 0)  {r : Int64} (h : m_upper σ = some r) (hret : ∀ (pc : Nat) (lv : List (Nat × Value)), retIs cX1_upper (some .long) (some (.long r)) pc → At G 1 σ lv [.long r] pc) : At G 1 σ [(0, .ref (xo X))] [] 0 := by
  rw [m_upper] at h
  refine A_aload_n Γ dX1_upper_0 0 rfl ?_
  refine g1_3 Γ Ξ dX1_upper_1 ?_
  obtain rfl := inj1 h
  exact hret _ _ dX1_upper_4
theorem mtX1_upper (l : Launch) (X : Xw) {σ : St}  {r : Int64} (h : m_upper σ = some r) : MetZ 1 l X yX1_upper cX1_upper 1 (some .long) 0 0 [.ref (xo X)] σ (some (.long r)) σ := MetZ.ofAt (by decide) (Nat.le_of_ble_eq_true rfl) (fun G _ Γ Ξ hR hret => wkX1_upper Γ Ξ hR h hret)

set_option maxHeartbeats 4000000 in
set_option maxRecDepth 100000 in
theorem wkX1_lower {G : Gx} {X : Xw} {σ : St} (Γ : Ok G RX1 cX1_lower 1) (Ξ : OkX 1 G X) (hRm : Rm G 0 0)  {r : Int64} (h : m_lower σ = some r) (hret : ∀ (pc : Nat) (lv : List (Nat × Value)), retIs cX1_lower (some .long) (some (.long r)) pc → At G 1 σ lv [.long r] pc) : At G 1 σ [(0, .ref (xo X))] [] 0 := by
  rw [m_lower] at h
  refine A_aload_n Γ dX1_lower_0 0 rfl ?_
  refine g1_4 Γ Ξ dX1_lower_1 ?_
  obtain rfl := inj1 h
  exact hret _ _ dX1_lower_4
theorem mtX1_lower (l : Launch) (X : Xw) {σ : St}  {r : Int64} (h : m_lower σ = some r) : MetZ 1 l X yX1_lower cX1_lower 1 (some .long) 0 0 [.ref (xo X)] σ (some (.long r)) σ := MetZ.ofAt (by decide) (Nat.le_of_ble_eq_true rfl) (fun G _ Γ Ξ hR hret => wkX1_lower Γ Ξ hR h hret)

set_option maxHeartbeats 4000000 in
set_option maxRecDepth 100000 in
theorem wkX1_counts {G : Gx} {X : Xw} {σ : St} (Γ : Ok G RX1 cX1_counts 4) (Ξ : OkX 1 G X) (hRm : Rm G 0 0) {a1 : Int32} {r : Int32} (h : m_counts σ a1 = some r) (hret : ∀ (pc : Nat) (lv : List (Nat × Value)), retIs cX1_counts (some .int) (some (.int r)) pc → At G 4 σ lv [.int r] pc) : At G 4 σ [(0, .ref (xo X)), (1, .int a1)] [] 0 := by
  rw [m_counts] at h
  refine A_iconst (v := 0) Γ dX1_counts_0 (by decide) ?_
  refine A_istore_n (lv' := [(2, .int 0), (0, .ref (xo X)), (1, .int a1)]) Γ dX1_counts_1 (by decide) rfl ?_
  refine A_iload_n Γ dX1_counts_2 2 rfl ?_
  by_cases c0 : a1 = 0
  · replace h := it_t c0 h
    refine A_tableIn (t := 44) (off := 41) Γ dX1_counts_3 (by rw [c0]; decide) (by rw [c0]; decide) (by rw [c0]; rfl) (by decide) ?_
    refine A_aload_n Γ dX1_counts_44 1 rfl ?_
    refine g1_5 Γ Ξ dX1_counts_45 ?_
    obtain rfl := inj1 h
    exact hret _ _ dX1_counts_48
  replace h := it_f c0 h
  by_cases c1 : a1 = 1
  · replace h := it_t c1 h
    refine A_tableIn (t := 49) (off := 46) Γ dX1_counts_3 (by rw [c1]; decide) (by rw [c1]; decide) (by rw [c1]; rfl) (by decide) ?_
    refine A_aload_n Γ dX1_counts_49 1 rfl ?_
    refine g1_16 Γ Ξ dX1_counts_50 ?_
    obtain rfl := inj1 h
    exact hret _ _ dX1_counts_53
  replace h := it_f c1 h
  by_cases c2 : a1 = 2
  · replace h := it_t c2 h
    refine A_tableIn (t := 54) (off := 51) Γ dX1_counts_3 (by rw [c2]; decide) (by rw [c2]; decide) (by rw [c2]; rfl) (by decide) ?_
    refine A_iconst (v := 0) Γ dX1_counts_54 (by decide) ?_
    refine A_istore_n (lv' := [(3, .int 0), (2, .int 0), (0, .ref (xo X)), (1, .int a1)]) Γ dX1_counts_55 (by decide) rfl ?_
    replace h := b1 h
    obtain ⟨x4, eLL1, h⟩ := h
    have hXL1 : At G 4 σ [(2, .int x4)] [] 87 := by
      refine A_iload_n Γ dX1_counts_87 0 rfl ?_
      obtain rfl := inj1 h
      exact hret _ _ dX1_counts_88
    replace eLL1 := lq2_ex eLL1
    obtain ⟨nL1, eLL1⟩ := eLL1
    have hLL1 : ∀ (nL1 : Nat) (x2 : Int32) (x3 : Int32), lpf2 (m_counts_L1 σ) nL1 x2 x3 = some x4 → At G 4 σ [(0, .ref (xo X)), (2, .int x2), (3, .int x3)] [] 56 := by
      intro nL1
      induction nL1 with
      | zero => intro x2 x3 eL1; exact (lpf2_0 eL1).elim
      | succ nL1 ihL1 =>
        intro x2 x3 eL1
        replace eL1 := lpf2_s eL1
        obtain ⟨qL1, eL1, hqL1⟩ := eL1
        rw [m_counts_L1] at eL1
        refine A_iload_n Γ dX1_counts_56 2 rfl ?_
        refine A_aload_n Γ dX1_counts_57 0 rfl ?_
        refine g1_16 Γ Ξ dX1_counts_58 ?_
        refine A_icmp_ge (t := 87) Γ dX1_counts_61 (by decide) (fun c => ?_) (fun c => ?_)
        · replace eL1 := it_t c eL1
          obtain rfl := pr1 (lpx2 eL1 hqL1)
          exact A_sub [1] rfl hXL1
        · replace eL1 := it_f c eL1
          refine A_iload_n Γ dX1_counts_64 1 rfl ?_
          refine A_aload_n Γ dX1_counts_65 0 rfl ?_
          refine g1_20 Γ Ξ dX1_counts_66 ?_
          refine A_iload_n Γ dX1_counts_69 2 rfl ?_
          replace eL1 := b1 eL1
          obtain ⟨v5, e6, eL1⟩ := eL1
          refine r1_20 Γ Ξ e6 dX1_counts_70 ?_
          replace eL1 := b1 eL1
          obtain ⟨x8, eJ7, eL1⟩ := eL1
          have hJJ7 : At G 4 σ [(0, .ref (xo X)), (3, .int x3)] [.int x8, .int x2] 79 := by
            refine A_iadd Γ dX1_counts_79 ?_
            refine A_istore_n (lv' := [(2, .int (x2 + x8)), (0, .ref (xo X)), (3, .int x3)]) Γ dX1_counts_80 (by decide) rfl ?_
            refine A_iinc (v := x3 + 1) (lv' := [(3, .int (x3 + 1)), (2, .int (x2 + x8)), (0, .ref (xo X))]) Γ dX1_counts_81 2 rfl rfl (by decide) rfl ?_
            refine A_goto (t := 56) Γ dX1_counts_84 (by decide) ?_
            exact A_sub [2, 1, 0] rfl (ihL1 _ _ (lpc2 eL1 hqL1))
          refine A_if_eq (t := 78) Γ dX1_counts_71 (by decide) (fun c => ?_) (fun c => ?_)
          · replace eJ7 := it_t c eJ7
            refine A_iconst (v := 0) Γ dX1_counts_78 (by decide) ?_
            obtain rfl := inj1 eJ7
            exact A_sub [0, 2] rfl hJJ7
          · replace eJ7 := it_f c eJ7
            refine A_iconst (v := 1) Γ dX1_counts_74 (by decide) ?_
            refine A_goto (t := 79) Γ dX1_counts_75 (by decide) ?_
            obtain rfl := inj1 eJ7
            exact A_sub [0, 2] rfl hJJ7
    exact A_sub [2, 1, 0] rfl (hLL1 _ _ _ eLL1)
  replace h := it_f c2 h
  by_cases c3 : a1 = 3
  · replace h := it_t c3 h
    refine A_tableIn (t := 89) (off := 86) Γ dX1_counts_3 (by rw [c3]; decide) (by rw [c3]; decide) (by rw [c3]; rfl) (by decide) ?_
    refine A_iconst (v := 0) Γ dX1_counts_89 (by decide) ?_
    refine A_istore_n (lv' := [(3, .int 0), (2, .int 0), (0, .ref (xo X)), (1, .int a1)]) Γ dX1_counts_90 (by decide) rfl ?_
    replace h := b1 h
    obtain ⟨x12, eLL9, h⟩ := h
    have hXL9 : At G 4 σ [(2, .int x12)] [] 131 := by
      refine A_iload_n Γ dX1_counts_131 0 rfl ?_
      obtain rfl := inj1 h
      exact hret _ _ dX1_counts_132
    replace eLL9 := lq2_ex eLL9
    obtain ⟨nL9, eLL9⟩ := eLL9
    have hLL9 : ∀ (nL9 : Nat) (x10 : Int32) (x11 : Int32), lpf2 (m_counts_L9 σ) nL9 x10 x11 = some x12 → At G 4 σ [(0, .ref (xo X)), (2, .int x10), (3, .int x11)] [] 91 := by
      intro nL9
      induction nL9 with
      | zero => intro x10 x11 eL9; exact (lpf2_0 eL9).elim
      | succ nL9 ihL9 =>
        intro x10 x11 eL9
        replace eL9 := lpf2_s eL9
        obtain ⟨qL9, eL9, hqL9⟩ := eL9
        rw [m_counts_L9] at eL9
        refine A_iload_n Γ dX1_counts_91 2 rfl ?_
        refine A_bipush (v := 64) Γ dX1_counts_92 (by decide) ?_
        refine A_icmp_ge (t := 131) Γ dX1_counts_94 (by decide) (fun c => ?_) (fun c => ?_)
        · replace eL9 := it_t c eL9
          obtain rfl := pr1 (lpx2 eL9 hqL9)
          exact A_sub [1] rfl hXL9
        · replace eL9 := it_f c eL9
          refine A_iload_n Γ dX1_counts_97 1 rfl ?_
          refine A_iload_n Γ dX1_counts_98 2 rfl ?_
          refine A_bipush (v := 8) Γ dX1_counts_99 (by decide) ?_
          refine A_idiv Γ dX1_counts_101 (by decide) ?_
          refine A_iload_n Γ dX1_counts_102 2 rfl ?_
          refine A_bipush (v := 8) Γ dX1_counts_103 (by decide) ?_
          refine A_irem Γ dX1_counts_105 (by decide) ?_
          replace eL9 := b1 eL9
          obtain ⟨x14, eJ13, eL9⟩ := eL9
          have hJJ13 : At G 4 σ [(0, .ref (xo X)), (3, .int x11)] [.int x14, .int x10] 123 := by
            refine A_iadd Γ dX1_counts_123 ?_
            refine A_istore_n (lv' := [(2, .int (x10 + x14)), (0, .ref (xo X)), (3, .int x11)]) Γ dX1_counts_124 (by decide) rfl ?_
            refine A_iinc (v := x11 + 1) (lv' := [(3, .int (x11 + 1)), (2, .int (x10 + x14)), (0, .ref (xo X))]) Γ dX1_counts_125 2 rfl rfl (by decide) rfl ?_
            refine A_goto (t := 91) Γ dX1_counts_128 (by decide) ?_
            exact A_sub [2, 1, 0] rfl (ihL9 _ _ (lpc2 eL9 hqL9))
          refine A_icmp_ge (t := 122) Γ dX1_counts_106 (by decide) (fun c => ?_) (fun c => ?_)
          · replace eJ13 := it_t c eJ13
            refine A_iconst (v := 0) Γ dX1_counts_122 (by decide) ?_
            obtain rfl := inj1 eJ13
            exact A_sub [0, 2] rfl hJJ13
          · replace eJ13 := it_f c eJ13
            refine A_aload_n Γ dX1_counts_109 0 rfl ?_
            refine g1_11 Γ Ξ dX1_counts_110 ?_
            refine A_iload_n Γ dX1_counts_113 2 rfl ?_
            replace eJ13 := b1 eJ13
            obtain ⟨v15, e16, eJ13⟩ := eJ13
            refine r1_11 Γ Ξ e16 dX1_counts_114 ?_
            refine A_if_le (t := 122) Γ dX1_counts_115 (by decide) (fun c => ?_) (fun c => ?_)
            · replace eJ13 := it_t c eJ13
              refine A_iconst (v := 0) Γ dX1_counts_122 (by decide) ?_
              obtain rfl := inj1 eJ13
              exact A_sub [0, 2] rfl hJJ13
            · replace eJ13 := it_f c eJ13
              refine A_iconst (v := 1) Γ dX1_counts_118 (by decide) ?_
              refine A_goto (t := 123) Γ dX1_counts_119 (by decide) ?_
              obtain rfl := inj1 eJ13
              exact A_sub [0, 2] rfl hJJ13
    exact A_sub [2, 1, 0] rfl (hLL9 _ _ _ eLL9)
  replace h := it_f c3 h
  by_cases c4 : a1 = 4
  · replace h := it_t c4 h
    refine A_tableIn (t := 133) (off := 130) Γ dX1_counts_3 (by rw [c4]; decide) (by rw [c4]; decide) (by rw [c4]; rfl) (by decide) ?_
    refine A_aload_n Γ dX1_counts_133 1 rfl ?_
    refine g1_40 Γ Ξ dX1_counts_134 ?_
    obtain rfl := inj1 h
    exact hret _ _ dX1_counts_137
  replace h := it_f c4 h
  by_cases c5 : a1 = 5
  · replace h := it_t c5 h
    refine A_tableIn (t := 138) (off := 135) Γ dX1_counts_3 (by rw [c5]; decide) (by rw [c5]; decide) (by rw [c5]; rfl) (by decide) ?_
    refine A_aload_n Γ dX1_counts_138 1 rfl ?_
    refine g1_34 Γ Ξ dX1_counts_139 ?_
    obtain rfl := inj1 h
    exact hret _ _ dX1_counts_142
  replace h := it_f c5 h
  by_cases c6 : a1 = 6
  · replace h := it_t c6 h
    refine A_tableIn (t := 143) (off := 140) Γ dX1_counts_3 (by rw [c6]; decide) (by rw [c6]; decide) (by rw [c6]; rfl) (by decide) ?_
    refine A_iconst (v := 0) Γ dX1_counts_143 (by decide) ?_
    refine A_istore_n (lv' := [(3, .int 0), (2, .int 0), (0, .ref (xo X)), (1, .int a1)]) Γ dX1_counts_144 (by decide) rfl ?_
    replace h := b1 h
    obtain ⟨x20, eLL17, h⟩ := h
    have hXL17 : At G 4 σ [(2, .int x20)] [] 174 := by
      refine A_iload_n Γ dX1_counts_174 0 rfl ?_
      obtain rfl := inj1 h
      exact hret _ _ dX1_counts_175
    replace eLL17 := lq2_ex eLL17
    obtain ⟨nL17, eLL17⟩ := eLL17
    have hLL17 : ∀ (nL17 : Nat) (x18 : Int32) (x19 : Int32), lpf2 (m_counts_L17 σ) nL17 x18 x19 = some x20 → At G 4 σ [(0, .ref (xo X)), (2, .int x18), (3, .int x19)] [] 145 := by
      intro nL17
      induction nL17 with
      | zero => intro x18 x19 eL17; exact (lpf2_0 eL17).elim
      | succ nL17 ihL17 =>
        intro x18 x19 eL17
        replace eL17 := lpf2_s eL17
        obtain ⟨qL17, eL17, hqL17⟩ := eL17
        rw [m_counts_L17] at eL17
        refine A_iload_n Γ dX1_counts_145 2 rfl ?_
        refine A_bipush (v := 6) Γ dX1_counts_146 (by decide) ?_
        refine A_icmp_ge (t := 174) Γ dX1_counts_148 (by decide) (fun c => ?_) (fun c => ?_)
        · replace eL17 := it_t c eL17
          obtain rfl := pr1 (lpx2 eL17 hqL17)
          exact A_sub [1] rfl hXL17
        · replace eL17 := it_f c eL17
          refine A_iload_n Γ dX1_counts_151 1 rfl ?_
          refine A_aload_n Γ dX1_counts_152 0 rfl ?_
          refine g1_6 Γ Ξ dX1_counts_153 ?_
          refine A_iload_n Γ dX1_counts_156 2 rfl ?_
          replace eL17 := b1 eL17
          obtain ⟨v21, e22, eL17⟩ := eL17
          refine r1_6 Γ Ξ e22 dX1_counts_157 ?_
          replace eL17 := b1 eL17
          obtain ⟨x24, eJ23, eL17⟩ := eL17
          have hJJ23 : At G 4 σ [(0, .ref (xo X)), (3, .int x19)] [.int x24, .int x18] 166 := by
            refine A_iadd Γ dX1_counts_166 ?_
            refine A_istore_n (lv' := [(2, .int (x18 + x24)), (0, .ref (xo X)), (3, .int x19)]) Γ dX1_counts_167 (by decide) rfl ?_
            refine A_iinc (v := x19 + 1) (lv' := [(3, .int (x19 + 1)), (2, .int (x18 + x24)), (0, .ref (xo X))]) Γ dX1_counts_168 2 rfl rfl (by decide) rfl ?_
            refine A_goto (t := 145) Γ dX1_counts_171 (by decide) ?_
            exact A_sub [2, 1, 0] rfl (ihL17 _ _ (lpc2 eL17 hqL17))
          refine A_if_lt (t := 165) Γ dX1_counts_158 (by decide) (fun c => ?_) (fun c => ?_)
          · replace eJ23 := it_t c eJ23
            refine A_iconst (v := 0) Γ dX1_counts_165 (by decide) ?_
            obtain rfl := inj1 eJ23
            exact A_sub [0, 2] rfl hJJ23
          · replace eJ23 := it_f c eJ23
            refine A_iconst (v := 1) Γ dX1_counts_161 (by decide) ?_
            refine A_goto (t := 166) Γ dX1_counts_162 (by decide) ?_
            obtain rfl := inj1 eJ23
            exact A_sub [0, 2] rfl hJJ23
    exact A_sub [2, 1, 0] rfl (hLL17 _ _ _ eLL17)
  replace h := it_f c6 h
  refine A_tableOut (t := 176) Γ dX1_counts_3 (tb_out (n := 7) (by decide) (fun j hj => by match j, hj with | 0, _ => exact c0 | 1, _ => exact c1 | 2, _ => exact c2 | 3, _ => exact c3 | 4, _ => exact c4 | 5, _ => exact c5 | 6, _ => exact c6)) (by decide) ?_
  refine A_iconst (v := 0) Γ dX1_counts_176 (by decide) ?_
  refine A_istore_n (lv' := [(3, .int 0), (2, .int 0), (0, .ref (xo X)), (1, .int a1)]) Γ dX1_counts_177 (by decide) rfl ?_
  replace h := b1 h
  obtain ⟨x28, eLL25, h⟩ := h
  have hXL25 : At G 4 σ [(2, .int x28)] [] 206 := by
    refine A_iload_n Γ dX1_counts_206 0 rfl ?_
    obtain rfl := inj1 h
    exact hret _ _ dX1_counts_207
  replace eLL25 := lq2_ex eLL25
  obtain ⟨nL25, eLL25⟩ := eLL25
  have hLL25 : ∀ (nL25 : Nat) (x26 : Int32) (x27 : Int32), lpf2 (m_counts_L25 σ) nL25 x26 x27 = some x28 → At G 4 σ [(0, .ref (xo X)), (2, .int x26), (3, .int x27)] [] 178 := by
    intro nL25
    induction nL25 with
    | zero => intro x26 x27 eL25; exact (lpf2_0 eL25).elim
    | succ nL25 ihL25 =>
      intro x26 x27 eL25
      replace eL25 := lpf2_s eL25
      obtain ⟨qL25, eL25, hqL25⟩ := eL25
      rw [m_counts_L25] at eL25
      refine A_iload_n Γ dX1_counts_178 2 rfl ?_
      refine A_iconst (v := 4) Γ dX1_counts_179 (by decide) ?_
      refine A_icmp_ge (t := 206) Γ dX1_counts_180 (by decide) (fun c => ?_) (fun c => ?_)
      · replace eL25 := it_t c eL25
        obtain rfl := pr1 (lpx2 eL25 hqL25)
        exact A_sub [1] rfl hXL25
      · replace eL25 := it_f c eL25
        refine A_iload_n Γ dX1_counts_183 1 rfl ?_
        refine A_aload_n Γ dX1_counts_184 0 rfl ?_
        refine g1_9 Γ Ξ dX1_counts_185 ?_
        refine A_iload_n Γ dX1_counts_188 2 rfl ?_
        replace eL25 := b1 eL25
        obtain ⟨v29, e30, eL25⟩ := eL25
        refine r1_9 Γ Ξ e30 dX1_counts_189 ?_
        replace eL25 := b1 eL25
        obtain ⟨x32, eJ31, eL25⟩ := eL25
        have hJJ31 : At G 4 σ [(0, .ref (xo X)), (3, .int x27)] [.int x32, .int x26] 198 := by
          refine A_iadd Γ dX1_counts_198 ?_
          refine A_istore_n (lv' := [(2, .int (x26 + x32)), (0, .ref (xo X)), (3, .int x27)]) Γ dX1_counts_199 (by decide) rfl ?_
          refine A_iinc (v := x27 + 1) (lv' := [(3, .int (x27 + 1)), (2, .int (x26 + x32)), (0, .ref (xo X))]) Γ dX1_counts_200 2 rfl rfl (by decide) rfl ?_
          refine A_goto (t := 178) Γ dX1_counts_203 (by decide) ?_
          exact A_sub [2, 1, 0] rfl (ihL25 _ _ (lpc2 eL25 hqL25))
        refine A_if_lt (t := 197) Γ dX1_counts_190 (by decide) (fun c => ?_) (fun c => ?_)
        · replace eJ31 := it_t c eJ31
          refine A_iconst (v := 0) Γ dX1_counts_197 (by decide) ?_
          obtain rfl := inj1 eJ31
          exact A_sub [0, 2] rfl hJJ31
        · replace eJ31 := it_f c eJ31
          refine A_iconst (v := 1) Γ dX1_counts_193 (by decide) ?_
          refine A_goto (t := 198) Γ dX1_counts_194 (by decide) ?_
          obtain rfl := inj1 eJ31
          exact A_sub [0, 2] rfl hJJ31
  exact A_sub [2, 1, 0] rfl (hLL25 _ _ _ eLL25)
theorem mtX1_counts (l : Launch) (X : Xw) {σ : St} {a1 : Int32} {r : Int32} (h : m_counts σ a1 = some r) : MetZ 1 l X yX1_counts cX1_counts 4 (some .int) 0 0 [.ref (xo X), .int a1] σ (some (.int r)) σ := MetZ.ofAt (by decide) (Nat.le_of_ble_eq_true rfl) (fun G _ Γ Ξ hR hret => wkX1_counts Γ Ξ hR h hret)
theorem kX1_X1counts {G : Gx} {X : Xw} {cc : ByteArray} {nL pc F LO : Nat} {σ : St} {lv : List (Nat × Value)} {st : List Value} (Γ : Ok G RX1 cc nL) (Ξ : OkX 1 G X) {a1 : Int32} {r : Int32} (hRm : Rm G F LO) (hf : 0 + 1 ≤ F) (hlo : 8 + (4 + 11) + 0 ≤ LO) (h : m_counts σ a1 = some r) (hW : (st.map fun v => v.category).sum ≤ 8) (d : decode cc pc = .ok (.invokevirtual 375, 3)) (kk : At G nL σ lv (.int r :: st) (pc + 3)) : At G nL σ lv (.int a1 :: .ref (xo X) :: st) pc := A_callV Γ Ξ rfl rfl (mtX1_counts (gl G) X h) (lw_V q1666 q1668 qs60 q64 q1669) (n := 1) (by decide +kernel) (rm_ok hRm hf hlo) (rm_k hRm) rfl rfl hW d kk
set_option maxHeartbeats 4000000 in
set_option maxRecDepth 100000 in
theorem wkX1_count {G : Gx} {X : Xw} {σ : St} (Γ : Ok G RX1 cX1_count 2) (Ξ : OkX 1 G X) (hRm : Rm G 1 23) {a1 : Int32} {r : Int32} (h : m_count σ a1 = some r) (hret : ∀ (pc : Nat) (lv : List (Nat × Value)), retIs cX1_count (some .int) (some (.int r)) pc → At G 2 σ lv [.int r] pc) : At G 2 σ [(0, .ref (xo X)), (1, .int a1)] [] 0 := by
  rw [m_count] at h
  refine A_iload_n Γ dX1_count_0 1 rfl ?_
  refine A_iconst (v := 0) Γ dX1_count_1 (by decide) ?_
  refine A_bipush (v := 7) Γ dX1_count_2 (by decide) ?_
  replace h := b1 h
  obtain ⟨v2, e1, h⟩ := h
  refine kX1_X1in Γ (kpX Ξ) hRm (by decide) (by decide) e1 (Nat.le_of_ble_eq_true rfl) dX1_count_4 ?_
  replace h := b1 h
  obtain ⟨x4, eJ3, h⟩ := h
  have hJJ3 : At G 2 σ [] [.int x4] 19 := by
    obtain rfl := inj1 h
    exact hret _ _ dX1_count_19
  refine A_if_eq (t := 18) Γ dX1_count_7 (by decide) (fun c => ?_) (fun c => ?_)
  · replace eJ3 := it_t c eJ3
    refine A_iconst (v := (-1)) Γ dX1_count_18 (by decide) ?_
    obtain rfl := inj1 eJ3
    exact A_sub [] rfl hJJ3
  · replace eJ3 := it_f c eJ3
    refine A_aload_n Γ dX1_count_10 0 rfl ?_
    refine A_iload_n Γ dX1_count_11 1 rfl ?_
    replace eJ3 := b1 eJ3
    obtain ⟨v6, e5, eJ3⟩ := eJ3
    refine kX1_X1counts Γ Ξ hRm (by decide) (by decide) e5 (Nat.le_of_ble_eq_true rfl) dX1_count_12 ?_
    refine A_goto (t := 19) Γ dX1_count_15 (by decide) ?_
    obtain rfl := inj1 eJ3
    exact A_sub [] rfl hJJ3
theorem mtX1_count (l : Launch) (X : Xw) {σ : St} {a1 : Int32} {r : Int32} (h : m_count σ a1 = some r) : MetZ 1 l X yX1_count cX1_count 2 (some .int) 1 23 [.ref (xo X), .int a1] σ (some (.int r)) σ := MetZ.ofAt (by decide) (Nat.le_of_ble_eq_true rfl) (fun G _ Γ Ξ hR hret => wkX1_count Γ Ξ hR h hret)

set_option maxHeartbeats 4000000 in
set_option maxRecDepth 100000 in
theorem wkX1_finding {G : Gx} {X : Xw} {σ : St} (Γ : Ok G RX1 cX1_finding 1) (Ξ : OkX 1 G X) (hRm : Rm G 0 0)  {r : Int32} (h : m_finding σ = some r) (hret : ∀ (pc : Nat) (lv : List (Nat × Value)), retIs cX1_finding (some .int) (some (.int r)) pc → At G 1 σ lv [.int r] pc) : At G 1 σ [(0, .ref (xo X))] [] 0 := by
  rw [m_finding] at h
  refine A_aload_n Γ dX1_finding_0 0 rfl ?_
  refine g1_0 Γ Ξ dX1_finding_1 ?_
  obtain rfl := inj1 h
  exact hret _ _ dX1_finding_4
theorem mtX1_finding (l : Launch) (X : Xw) {σ : St}  {r : Int32} (h : m_finding σ = some r) : MetZ 1 l X yX1_finding cX1_finding 1 (some .int) 0 0 [.ref (xo X)] σ (some (.int r)) σ := MetZ.ofAt (by decide) (Nat.le_of_ble_eq_true rfl) (fun G _ Γ Ξ hR hret => wkX1_finding Γ Ξ hR h hret)

set_option maxHeartbeats 4000000 in
set_option maxRecDepth 100000 in
theorem wkX1_findings {G : Gx} {X : Xw} {σ : St} (Γ : Ok G RX1 cX1_findings 2) (Ξ : OkX 1 G X) (hRm : Rm G 1 22) {a1 : Int32} {r : Int32} (h : m_findings σ a1 = some r) (hret : ∀ (pc : Nat) (lv : List (Nat × Value)), retIs cX1_findings (some .int) (some (.int r)) pc → At G 2 σ lv [.int r] pc) : At G 2 σ [(0, .ref (xo X)), (1, .int a1)] [] 0 := by
  rw [m_findings] at h
  refine A_iload_n Γ dX1_findings_0 1 rfl ?_
  refine A_iconst (v := 1) Γ dX1_findings_1 (by decide) ?_
  refine A_iconst (v := 5) Γ dX1_findings_2 (by decide) ?_
  replace h := b1 h
  obtain ⟨v2, e1, h⟩ := h
  refine kX1_X1in Γ (kpX Ξ) hRm (by decide) (by decide) e1 (Nat.le_of_ble_eq_true rfl) dX1_findings_3 ?_
  replace h := b1 h
  obtain ⟨x4, eJ3, h⟩ := h
  have hJJ3 : At G 2 σ [] [.int x4] 19 := by
    obtain rfl := inj1 h
    exact hret _ _ dX1_findings_19
  refine A_if_eq (t := 18) Γ dX1_findings_6 (by decide) (fun c => ?_) (fun c => ?_)
  · replace eJ3 := it_t c eJ3
    refine A_iconst (v := (-1)) Γ dX1_findings_18 (by decide) ?_
    obtain rfl := inj1 eJ3
    exact A_sub [] rfl hJJ3
  · replace eJ3 := it_f c eJ3
    refine A_aload_n Γ dX1_findings_9 0 rfl ?_
    refine g1_1 Γ Ξ dX1_findings_10 ?_
    refine A_iload_n Γ dX1_findings_13 1 rfl ?_
    replace eJ3 := b1 eJ3
    obtain ⟨v5, e6, eJ3⟩ := eJ3
    refine r1_1 Γ Ξ e6 dX1_findings_14 ?_
    refine A_goto (t := 19) Γ dX1_findings_15 (by decide) ?_
    obtain rfl := inj1 eJ3
    exact A_sub [] rfl hJJ3
theorem mtX1_findings (l : Launch) (X : Xw) {σ : St} {a1 : Int32} {r : Int32} (h : m_findings σ a1 = some r) : MetZ 1 l X yX1_findings cX1_findings 2 (some .int) 1 22 [.ref (xo X), .int a1] σ (some (.int r)) σ := MetZ.ofAt (by decide) (Nat.le_of_ble_eq_true rfl) (fun G _ Γ Ξ hR hret => wkX1_findings Γ Ξ hR h hret)

set_option maxHeartbeats 4000000 in
set_option maxRecDepth 100000 in
theorem wkX1_mix {G : Gx} {X : Xw} {σ σ' : St} (Γ : Ok G RX1 cX1_mix 2) (Ξ : OkX 1 G X) (hRm : Rm G 0 0) {a1 : Int32}  (h : m_mix σ a1 = some σ') (hret : ∀ (pc : Nat) (lv : List (Nat × Value)), retIs cX1_mix none (none) pc → At G 2 σ' lv [] pc) : At G 2 σ [(0, .ref (xo X)), (1, .int a1)] [] 0 := by
  rw [m_mix] at h
  refine A_aload_n Γ dX1_mix_0 0 rfl ?_
  refine A_ldc2 (v := 31) Γ q1687 dX1_mix_1 ?_
  refine A_aload_n Γ dX1_mix_4 0 rfl ?_
  refine g1_72 Γ Ξ dX1_mix_5 ?_
  refine A_lmul Γ dX1_mix_8 ?_
  refine A_iload_n Γ dX1_mix_9 1 rfl ?_
  refine A_i2l Γ dX1_mix_10 ?_
  refine A_ladd Γ dX1_mix_11 ?_
  refine p1_72 Γ Ξ dX1_mix_12 ?_
  obtain rfl := inj1 h
  exact hret _ _ dX1_mix_15
theorem mtX1_mix (l : Launch) (X : Xw) {σ σ' : St} {a1 : Int32}  (h : m_mix σ a1 = some σ') : MetZ 1 l X yX1_mix cX1_mix 2 none 0 0 [.ref (xo X), .int a1] σ (none) σ' := MetZ.ofAt (by decide) (Nat.le_of_ble_eq_true rfl) (fun G _ Γ Ξ hR hret => wkX1_mix Γ Ξ hR h hret)
theorem kX1_X1mix {G : Gx} {X : Xw} {cc : ByteArray} {nL pc F LO : Nat} {σ σ' : St} {lv : List (Nat × Value)} {st : List Value} (Γ : Ok G RX1 cc nL) (Ξ : OkX 1 G X) {a1 : Int32}  (hRm : Rm G F LO) (hf : 0 + 1 ≤ F) (hlo : 8 + (2 + 11) + 0 ≤ LO) (h : m_mix σ a1 = some σ') (hW : (st.map fun v => v.category).sum ≤ 8) (d : decode cc pc = .ok (.invokevirtual 385, 3)) (kk : At G nL σ' lv (st) (pc + 3)) : At G nL σ lv (.int a1 :: .ref (xo X) :: st) pc := A_callV Γ Ξ rfl rfl (mtX1_mix (gl G) X h) (lw_V q1683 q1685 qs61 q64 q1686) (n := 1) (by decide +kernel) (rm_ok hRm hf hlo) (rm_k hRm) rfl rfl hW d kk
set_option maxHeartbeats 4000000 in
set_option maxRecDepth 100000 in
theorem wkX1_digest {G : Gx} {X : Xw} {σ σ' : St} (Γ : Ok G RX1 cX1_digest 3) (Ξ : OkX 1 G X) (hRm : Rm G 1 23)  {r : Int64} (h : m_digest σ = some (r, σ')) (hret : ∀ (pc : Nat) (lv : List (Nat × Value)), retIs cX1_digest (some .long) (some (.long r)) pc → At G 3 σ' lv [.long r] pc) : At G 3 σ [(0, .ref (xo X))] [] 0 := by
  rw [m_digest] at h
  refine A_aload_n Γ dX1_digest_0 0 rfl ?_
  refine A_ldc2 (v := 17) Γ q1682 dX1_digest_1 ?_
  refine p1_72 Γ Ξ dX1_digest_4 ?_
  refine A_iconst (v := 0) Γ dX1_digest_7 (by decide) ?_
  refine A_istore_n (lv' := [(1, .int 0), (0, .ref (xo X))]) Γ dX1_digest_8 (by decide) rfl ?_
  replace h := b1 h
  obtain ⟨σ4, eLL1, h⟩ := h
  have hXL1 : At G 3 σ4 [(0, .ref (xo X))] [] 30 := by
    refine A_iconst (v := 0) Γ dX1_digest_30 (by decide) ?_
    refine A_istore_n (lv' := [(1, .int 0), (0, .ref (xo X))]) Γ dX1_digest_31 (by decide) rfl ?_
    replace h := b1 h
    obtain ⟨σ12, eLL9, h⟩ := h
    have hXL9 : At G 3 σ12 [(0, .ref (xo X))] [] 95 := by
      refine A_iconst (v := 0) Γ dX1_digest_95 (by decide) ?_
      refine A_istore_n (lv' := [(1, .int 0), (0, .ref (xo X))]) Γ dX1_digest_96 (by decide) rfl ?_
      replace h := b1 h
      obtain ⟨σ34, eLL31, h⟩ := h
      have hXL31 : At G 3 σ34 [(0, .ref (xo X))] [] 135 := by
        refine A_iconst (v := 0) Γ dX1_digest_135 (by decide) ?_
        refine A_istore_n (lv' := [(1, .int 0), (0, .ref (xo X))]) Γ dX1_digest_136 (by decide) rfl ?_
        replace h := b1 h
        obtain ⟨σ46, eLL43, h⟩ := h
        have hXL43 : At G 3 σ46 [(0, .ref (xo X))] [] 172 := by
          refine A_iconst (v := 0) Γ dX1_digest_172 (by decide) ?_
          refine A_istore_n (lv' := [(1, .int 0), (0, .ref (xo X))]) Γ dX1_digest_173 (by decide) rfl ?_
          replace h := b1 h
          obtain ⟨σ58, eLL55, h⟩ := h
          have hXL55 : At G 3 σ58 [(0, .ref (xo X))] [] 228 := by
            refine A_iconst (v := 0) Γ dX1_digest_228 (by decide) ?_
            refine A_istore_n (lv' := [(1, .int 0), (0, .ref (xo X))]) Γ dX1_digest_229 (by decide) rfl ?_
            replace h := b1 h
            obtain ⟨σ78, eLL75, h⟩ := h
            have hXL75 : At G 3 σ78 [(0, .ref (xo X))] [] 264 := by
              refine A_aload_n Γ dX1_digest_264 0 rfl ?_
              refine A_aload_n Γ dX1_digest_265 0 rfl ?_
              refine g1_46 Γ Ξ dX1_digest_266 ?_
              replace h := b1 h
              obtain ⟨σ88, e87, h⟩ := h
              refine kX1_X1mix Γ Ξ hRm (by decide) (by decide) e87 (Nat.le_of_ble_eq_true rfl) dX1_digest_269 ?_
              refine A_aload_n Γ dX1_digest_272 0 rfl ?_
              refine A_aload_n Γ dX1_digest_273 0 rfl ?_
              refine g1_47 Γ Ξ dX1_digest_274 ?_
              replace h := b1 h
              obtain ⟨σ90, e89, h⟩ := h
              refine kX1_X1mix Γ Ξ hRm (by decide) (by decide) e89 (Nat.le_of_ble_eq_true rfl) dX1_digest_277 ?_
              refine A_iconst (v := 0) Γ dX1_digest_280 (by decide) ?_
              refine A_istore_n (lv' := [(1, .int 0), (0, .ref (xo X))]) Γ dX1_digest_281 (by decide) rfl ?_
              replace h := b1 h
              obtain ⟨σ94, eLL91, h⟩ := h
              have hXL91 : At G 3 σ94 [(0, .ref (xo X))] [] 350 := by
                refine A_iconst (v := 0) Γ dX1_digest_350 (by decide) ?_
                refine A_istore_n (lv' := [(1, .int 0), (0, .ref (xo X))]) Γ dX1_digest_351 (by decide) rfl ?_
                replace h := b1 h
                obtain ⟨σ116, eLL113, h⟩ := h
                have hXL113 : At G 3 σ116 [(0, .ref (xo X))] [] 419 := by
                  refine A_aload_n Γ dX1_digest_419 0 rfl ?_
                  refine g1_72 Γ Ξ dX1_digest_420 ?_
                  obtain ⟨rfl, rfl⟩ := inj2 h
                  exact hret _ _ dX1_digest_423
                replace eLL113 := lq2_ex eLL113
                obtain ⟨nL113, eLL113⟩ := eLL113
                have hLL113 : ∀ (nL113 : Nat) (σ114 : St) (x115 : Int32), lpf2 (m_digest_L113) nL113 σ114 x115 = some σ116 → At G 3 σ114 [(0, .ref (xo X)), (1, .int x115)] [] 352 := by
                  intro nL113
                  induction nL113 with
                  | zero => intro σ114 x115 eL113; exact (lpf2_0 eL113).elim
                  | succ nL113 ihL113 =>
                    intro σ114 x115 eL113
                    replace eL113 := lpf2_s eL113
                    obtain ⟨qL113, eL113, hqL113⟩ := eL113
                    rw [m_digest_L113] at eL113
                    refine A_iload_n Γ dX1_digest_352 1 rfl ?_
                    refine A_iconst (v := 4) Γ dX1_digest_353 (by decide) ?_
                    refine A_icmp_ge (t := 419) Γ dX1_digest_354 (by decide) (fun c => ?_) (fun c => ?_)
                    · replace eL113 := it_t c eL113
                      obtain rfl := pr1 (lpx2 eL113 hqL113)
                      exact A_sub [0] rfl hXL113
                    · replace eL113 := it_f c eL113
                      refine A_aload_n Γ dX1_digest_357 0 rfl ?_
                      refine A_aload_n Γ dX1_digest_358 0 rfl ?_
                      refine g1_9 Γ Ξ dX1_digest_359 ?_
                      refine A_iload_n Γ dX1_digest_362 1 rfl ?_
                      replace eL113 := b1 eL113
                      obtain ⟨v117, e118, eL113⟩ := eL113
                      refine r1_9 Γ Ξ e118 dX1_digest_363 ?_
                      replace eL113 := b1 eL113
                      obtain ⟨x120, eJ119, eL113⟩ := eL113
                      have hJJ119 : At G 3 σ114 [(0, .ref (xo X)), (1, .int x115)] [.int x120, .ref (xo X)] 377 := by
                        replace eL113 := b1 eL113
                        obtain ⟨σ124, e123, eL113⟩ := eL113
                        refine kX1_X1mix Γ Ξ hRm (by decide) (by decide) e123 (Nat.le_of_ble_eq_true rfl) dX1_digest_377 ?_
                        refine A_iconst (v := 0) Γ dX1_digest_380 (by decide) ?_
                        refine A_istore_n (lv' := [(2, .int 0), (0, .ref (xo X)), (1, .int x115)]) Γ dX1_digest_381 (by decide) rfl ?_
                        replace eL113 := b1 eL113
                        obtain ⟨σ128, eLL125, eL113⟩ := eL113
                        have hXL125 : At G 3 σ128 [(0, .ref (xo X)), (1, .int x115)] [] 413 := by
                          refine A_iinc (v := x115 + 1) (lv' := [(1, .int (x115 + 1)), (0, .ref (xo X))]) Γ dX1_digest_413 1 rfl rfl (by decide) rfl ?_
                          refine A_goto (t := 352) Γ dX1_digest_416 (by decide) ?_
                          exact A_sub [1, 0] rfl (ihL113 _ _ (lpc2 eL113 hqL113))
                        replace eLL125 := lq2_ex eLL125
                        obtain ⟨nL125, eLL125⟩ := eLL125
                        have hLL125 : ∀ (nL125 : Nat) (σ126 : St) (x127 : Int32), lpf2 (m_digest_L125 x115) nL125 σ126 x127 = some σ128 → At G 3 σ126 [(0, .ref (xo X)), (1, .int x115), (2, .int x127)] [] 382 := by
                          intro nL125
                          induction nL125 with
                          | zero => intro σ126 x127 eL125; exact (lpf2_0 eL125).elim
                          | succ nL125 ihL125 =>
                            intro σ126 x127 eL125
                            replace eL125 := lpf2_s eL125
                            obtain ⟨qL125, eL125, hqL125⟩ := eL125
                            rw [m_digest_L125] at eL125
                            refine A_iload_n Γ dX1_digest_382 2 rfl ?_
                            refine A_aload_n Γ dX1_digest_383 0 rfl ?_
                            refine g1_9 Γ Ξ dX1_digest_384 ?_
                            refine A_iload_n Γ dX1_digest_387 1 rfl ?_
                            replace eL125 := b1 eL125
                            obtain ⟨v129, e130, eL125⟩ := eL125
                            refine r1_9 Γ Ξ e130 dX1_digest_388 ?_
                            refine A_icmp_ge (t := 413) Γ dX1_digest_389 (by decide) (fun c => ?_) (fun c => ?_)
                            · replace eL125 := it_t c eL125
                              obtain rfl := pr1 (lpx2 eL125 hqL125)
                              exact A_sub [0, 1] rfl hXL125
                            · replace eL125 := it_f c eL125
                              refine A_aload_n Γ dX1_digest_392 0 rfl ?_
                              refine A_aload_n Γ dX1_digest_393 0 rfl ?_
                              refine g1_10 Γ Ξ dX1_digest_394 ?_
                              refine A_bipush (v := 40) Γ dX1_digest_397 (by decide) ?_
                              refine A_iload_n Γ dX1_digest_399 1 rfl ?_
                              refine A_imul Γ dX1_digest_400 ?_
                              refine A_iload_n Γ dX1_digest_401 2 rfl ?_
                              refine A_iadd Γ dX1_digest_402 ?_
                              replace eL125 := b1 eL125
                              obtain ⟨v131, e132, eL125⟩ := eL125
                              refine r1_10 Γ Ξ e132 dX1_digest_403 ?_
                              replace eL125 := b1 eL125
                              obtain ⟨σ134, e133, eL125⟩ := eL125
                              refine kX1_X1mix Γ Ξ hRm (by decide) (by decide) e133 (Nat.le_of_ble_eq_true rfl) dX1_digest_404 ?_
                              refine A_iinc (v := x127 + 1) (lv' := [(2, .int (x127 + 1)), (0, .ref (xo X)), (1, .int x115)]) Γ dX1_digest_407 2 rfl rfl (by decide) rfl ?_
                              refine A_goto (t := 382) Γ dX1_digest_410 (by decide) ?_
                              exact A_sub [1, 2, 0] rfl (ihL125 _ _ (lpc2 eL125 hqL125))
                        exact A_sub [1, 2, 0] rfl (hLL125 _ _ _ eLL125)
                      refine A_if_ge (t := 371) Γ dX1_digest_364 (by decide) (fun c => ?_) (fun c => ?_)
                      · replace eJ119 := it_t c eJ119
                        refine A_aload_n Γ dX1_digest_371 0 rfl ?_
                        refine g1_9 Γ Ξ dX1_digest_372 ?_
                        refine A_iload_n Γ dX1_digest_375 1 rfl ?_
                        replace eJ119 := b1 eJ119
                        obtain ⟨v121, e122, eJ119⟩ := eJ119
                        refine r1_9 Γ Ξ e122 dX1_digest_376 ?_
                        obtain rfl := inj1 eJ119
                        exact A_sub [0, 1] rfl hJJ119
                      · replace eJ119 := it_f c eJ119
                        refine A_iconst (v := (-1)) Γ dX1_digest_367 (by decide) ?_
                        refine A_goto (t := 377) Γ dX1_digest_368 (by decide) ?_
                        obtain rfl := inj1 eJ119
                        exact A_sub [0, 1] rfl hJJ119
                exact A_sub [1, 0] rfl (hLL113 _ _ _ eLL113)
              replace eLL91 := lq2_ex eLL91
              obtain ⟨nL91, eLL91⟩ := eLL91
              have hLL91 : ∀ (nL91 : Nat) (σ92 : St) (x93 : Int32), lpf2 (m_digest_L91) nL91 σ92 x93 = some σ94 → At G 3 σ92 [(0, .ref (xo X)), (1, .int x93)] [] 282 := by
                intro nL91
                induction nL91 with
                | zero => intro σ92 x93 eL91; exact (lpf2_0 eL91).elim
                | succ nL91 ihL91 =>
                  intro σ92 x93 eL91
                  replace eL91 := lpf2_s eL91
                  obtain ⟨qL91, eL91, hqL91⟩ := eL91
                  rw [m_digest_L91] at eL91
                  refine A_iload_n Γ dX1_digest_282 1 rfl ?_
                  refine A_bipush (v := 6) Γ dX1_digest_283 (by decide) ?_
                  refine A_icmp_ge (t := 350) Γ dX1_digest_285 (by decide) (fun c => ?_) (fun c => ?_)
                  · replace eL91 := it_t c eL91
                    obtain rfl := pr1 (lpx2 eL91 hqL91)
                    exact A_sub [0] rfl hXL91
                  · replace eL91 := it_f c eL91
                    refine A_aload_n Γ dX1_digest_288 0 rfl ?_
                    refine A_aload_n Γ dX1_digest_289 0 rfl ?_
                    refine g1_6 Γ Ξ dX1_digest_290 ?_
                    refine A_iload_n Γ dX1_digest_293 1 rfl ?_
                    replace eL91 := b1 eL91
                    obtain ⟨v95, e96, eL91⟩ := eL91
                    refine r1_6 Γ Ξ e96 dX1_digest_294 ?_
                    replace eL91 := b1 eL91
                    obtain ⟨x98, eJ97, eL91⟩ := eL91
                    have hJJ97 : At G 3 σ92 [(0, .ref (xo X)), (1, .int x93)] [.int x98, .ref (xo X)] 308 := by
                      replace eL91 := b1 eL91
                      obtain ⟨σ102, e101, eL91⟩ := eL91
                      refine kX1_X1mix Γ Ξ hRm (by decide) (by decide) e101 (Nat.le_of_ble_eq_true rfl) dX1_digest_308 ?_
                      refine A_iconst (v := 0) Γ dX1_digest_311 (by decide) ?_
                      refine A_istore_n (lv' := [(2, .int 0), (0, .ref (xo X)), (1, .int x93)]) Γ dX1_digest_312 (by decide) rfl ?_
                      replace eL91 := b1 eL91
                      obtain ⟨σ106, eLL103, eL91⟩ := eL91
                      have hXL103 : At G 3 σ106 [(0, .ref (xo X)), (1, .int x93)] [] 344 := by
                        refine A_iinc (v := x93 + 1) (lv' := [(1, .int (x93 + 1)), (0, .ref (xo X))]) Γ dX1_digest_344 1 rfl rfl (by decide) rfl ?_
                        refine A_goto (t := 282) Γ dX1_digest_347 (by decide) ?_
                        exact A_sub [1, 0] rfl (ihL91 _ _ (lpc2 eL91 hqL91))
                      replace eLL103 := lq2_ex eLL103
                      obtain ⟨nL103, eLL103⟩ := eLL103
                      have hLL103 : ∀ (nL103 : Nat) (σ104 : St) (x105 : Int32), lpf2 (m_digest_L103 x93) nL103 σ104 x105 = some σ106 → At G 3 σ104 [(0, .ref (xo X)), (1, .int x93), (2, .int x105)] [] 313 := by
                        intro nL103
                        induction nL103 with
                        | zero => intro σ104 x105 eL103; exact (lpf2_0 eL103).elim
                        | succ nL103 ihL103 =>
                          intro σ104 x105 eL103
                          replace eL103 := lpf2_s eL103
                          obtain ⟨qL103, eL103, hqL103⟩ := eL103
                          rw [m_digest_L103] at eL103
                          refine A_iload_n Γ dX1_digest_313 2 rfl ?_
                          refine A_aload_n Γ dX1_digest_314 0 rfl ?_
                          refine g1_6 Γ Ξ dX1_digest_315 ?_
                          refine A_iload_n Γ dX1_digest_318 1 rfl ?_
                          replace eL103 := b1 eL103
                          obtain ⟨v107, e108, eL103⟩ := eL103
                          refine r1_6 Γ Ξ e108 dX1_digest_319 ?_
                          refine A_icmp_ge (t := 344) Γ dX1_digest_320 (by decide) (fun c => ?_) (fun c => ?_)
                          · replace eL103 := it_t c eL103
                            obtain rfl := pr1 (lpx2 eL103 hqL103)
                            exact A_sub [0, 1] rfl hXL103
                          · replace eL103 := it_f c eL103
                            refine A_aload_n Γ dX1_digest_323 0 rfl ?_
                            refine A_aload_n Γ dX1_digest_324 0 rfl ?_
                            refine g1_7 Γ Ξ dX1_digest_325 ?_
                            refine A_bipush (v := 40) Γ dX1_digest_328 (by decide) ?_
                            refine A_iload_n Γ dX1_digest_330 1 rfl ?_
                            refine A_imul Γ dX1_digest_331 ?_
                            refine A_iload_n Γ dX1_digest_332 2 rfl ?_
                            refine A_iadd Γ dX1_digest_333 ?_
                            replace eL103 := b1 eL103
                            obtain ⟨v109, e110, eL103⟩ := eL103
                            refine r1_7 Γ Ξ e110 dX1_digest_334 ?_
                            replace eL103 := b1 eL103
                            obtain ⟨σ112, e111, eL103⟩ := eL103
                            refine kX1_X1mix Γ Ξ hRm (by decide) (by decide) e111 (Nat.le_of_ble_eq_true rfl) dX1_digest_335 ?_
                            refine A_iinc (v := x105 + 1) (lv' := [(2, .int (x105 + 1)), (0, .ref (xo X)), (1, .int x93)]) Γ dX1_digest_338 2 rfl rfl (by decide) rfl ?_
                            refine A_goto (t := 313) Γ dX1_digest_341 (by decide) ?_
                            exact A_sub [1, 2, 0] rfl (ihL103 _ _ (lpc2 eL103 hqL103))
                      exact A_sub [1, 2, 0] rfl (hLL103 _ _ _ eLL103)
                    refine A_if_ge (t := 302) Γ dX1_digest_295 (by decide) (fun c => ?_) (fun c => ?_)
                    · replace eJ97 := it_t c eJ97
                      refine A_aload_n Γ dX1_digest_302 0 rfl ?_
                      refine g1_6 Γ Ξ dX1_digest_303 ?_
                      refine A_iload_n Γ dX1_digest_306 1 rfl ?_
                      replace eJ97 := b1 eJ97
                      obtain ⟨v99, e100, eJ97⟩ := eJ97
                      refine r1_6 Γ Ξ e100 dX1_digest_307 ?_
                      obtain rfl := inj1 eJ97
                      exact A_sub [0, 1] rfl hJJ97
                    · replace eJ97 := it_f c eJ97
                      refine A_iconst (v := (-1)) Γ dX1_digest_298 (by decide) ?_
                      refine A_goto (t := 308) Γ dX1_digest_299 (by decide) ?_
                      obtain rfl := inj1 eJ97
                      exact A_sub [0, 1] rfl hJJ97
              exact A_sub [1, 0] rfl (hLL91 _ _ _ eLL91)
            replace eLL75 := lq2_ex eLL75
            obtain ⟨nL75, eLL75⟩ := eLL75
            have hLL75 : ∀ (nL75 : Nat) (σ76 : St) (x77 : Int32), lpf2 (m_digest_L75) nL75 σ76 x77 = some σ78 → At G 3 σ76 [(0, .ref (xo X)), (1, .int x77)] [] 230 := by
              intro nL75
              induction nL75 with
              | zero => intro σ76 x77 eL75; exact (lpf2_0 eL75).elim
              | succ nL75 ihL75 =>
                intro σ76 x77 eL75
                replace eL75 := lpf2_s eL75
                obtain ⟨qL75, eL75, hqL75⟩ := eL75
                rw [m_digest_L75] at eL75
                refine A_iload_n Γ dX1_digest_230 1 rfl ?_
                refine A_aload_n Γ dX1_digest_231 0 rfl ?_
                refine g1_40 Γ Ξ dX1_digest_232 ?_
                refine A_icmp_ge (t := 264) Γ dX1_digest_235 (by decide) (fun c => ?_) (fun c => ?_)
                · replace eL75 := it_t c eL75
                  obtain rfl := pr1 (lpx2 eL75 hqL75)
                  exact A_sub [0] rfl hXL75
                · replace eL75 := it_f c eL75
                  refine A_aload_n Γ dX1_digest_238 0 rfl ?_
                  refine A_aload_n Γ dX1_digest_239 0 rfl ?_
                  refine g1_41 Γ Ξ dX1_digest_240 ?_
                  refine A_iload_n Γ dX1_digest_243 1 rfl ?_
                  replace eL75 := b1 eL75
                  obtain ⟨v79, e80, eL75⟩ := eL75
                  refine r1_41 Γ Ξ e80 dX1_digest_244 ?_
                  replace eL75 := b1 eL75
                  obtain ⟨σ82, e81, eL75⟩ := eL75
                  refine kX1_X1mix Γ Ξ hRm (by decide) (by decide) e81 (Nat.le_of_ble_eq_true rfl) dX1_digest_245 ?_
                  refine A_aload_n Γ dX1_digest_248 0 rfl ?_
                  refine A_aload_n Γ dX1_digest_249 0 rfl ?_
                  refine g1_42 Γ Ξ dX1_digest_250 ?_
                  refine A_iload_n Γ dX1_digest_253 1 rfl ?_
                  replace eL75 := b1 eL75
                  obtain ⟨v83, e84, eL75⟩ := eL75
                  refine r1_42 Γ Ξ e84 dX1_digest_254 ?_
                  replace eL75 := b1 eL75
                  obtain ⟨σ86, e85, eL75⟩ := eL75
                  refine kX1_X1mix Γ Ξ hRm (by decide) (by decide) e85 (Nat.le_of_ble_eq_true rfl) dX1_digest_255 ?_
                  refine A_iinc (v := x77 + 1) (lv' := [(1, .int (x77 + 1)), (0, .ref (xo X))]) Γ dX1_digest_258 1 rfl rfl (by decide) rfl ?_
                  refine A_goto (t := 230) Γ dX1_digest_261 (by decide) ?_
                  exact A_sub [1, 0] rfl (ihL75 _ _ (lpc2 eL75 hqL75))
            exact A_sub [1, 0] rfl (hLL75 _ _ _ eLL75)
          replace eLL55 := lq2_ex eLL55
          obtain ⟨nL55, eLL55⟩ := eLL55
          have hLL55 : ∀ (nL55 : Nat) (σ56 : St) (x57 : Int32), lpf2 (m_digest_L55) nL55 σ56 x57 = some σ58 → At G 3 σ56 [(0, .ref (xo X)), (1, .int x57)] [] 174 := by
            intro nL55
            induction nL55 with
            | zero => intro σ56 x57 eL55; exact (lpf2_0 eL55).elim
            | succ nL55 ihL55 =>
              intro σ56 x57 eL55
              replace eL55 := lpf2_s eL55
              obtain ⟨qL55, eL55, hqL55⟩ := eL55
              rw [m_digest_L55] at eL55
              refine A_iload_n Γ dX1_digest_174 1 rfl ?_
              refine A_aload_n Γ dX1_digest_175 0 rfl ?_
              refine g1_34 Γ Ξ dX1_digest_176 ?_
              refine A_icmp_ge (t := 228) Γ dX1_digest_179 (by decide) (fun c => ?_) (fun c => ?_)
              · replace eL55 := it_t c eL55
                obtain rfl := pr1 (lpx2 eL55 hqL55)
                exact A_sub [0] rfl hXL55
              · replace eL55 := it_f c eL55
                refine A_aload_n Γ dX1_digest_182 0 rfl ?_
                refine A_aload_n Γ dX1_digest_183 0 rfl ?_
                refine g1_35 Γ Ξ dX1_digest_184 ?_
                refine A_iload_n Γ dX1_digest_187 1 rfl ?_
                replace eL55 := b1 eL55
                obtain ⟨v59, e60, eL55⟩ := eL55
                refine r1_35 Γ Ξ e60 dX1_digest_188 ?_
                replace eL55 := b1 eL55
                obtain ⟨σ62, e61, eL55⟩ := eL55
                refine kX1_X1mix Γ Ξ hRm (by decide) (by decide) e61 (Nat.le_of_ble_eq_true rfl) dX1_digest_189 ?_
                refine A_aload_n Γ dX1_digest_192 0 rfl ?_
                refine A_aload_n Γ dX1_digest_193 0 rfl ?_
                refine g1_36 Γ Ξ dX1_digest_194 ?_
                refine A_iload_n Γ dX1_digest_197 1 rfl ?_
                replace eL55 := b1 eL55
                obtain ⟨v63, e64, eL55⟩ := eL55
                refine r1_36 Γ Ξ e64 dX1_digest_198 ?_
                replace eL55 := b1 eL55
                obtain ⟨σ66, e65, eL55⟩ := eL55
                refine kX1_X1mix Γ Ξ hRm (by decide) (by decide) e65 (Nat.le_of_ble_eq_true rfl) dX1_digest_199 ?_
                refine A_aload_n Γ dX1_digest_202 0 rfl ?_
                refine A_aload_n Γ dX1_digest_203 0 rfl ?_
                refine g1_37 Γ Ξ dX1_digest_204 ?_
                refine A_iload_n Γ dX1_digest_207 1 rfl ?_
                replace eL55 := b1 eL55
                obtain ⟨v67, e68, eL55⟩ := eL55
                refine r1_37 Γ Ξ e68 dX1_digest_208 ?_
                replace eL55 := b1 eL55
                obtain ⟨σ70, e69, eL55⟩ := eL55
                refine kX1_X1mix Γ Ξ hRm (by decide) (by decide) e69 (Nat.le_of_ble_eq_true rfl) dX1_digest_209 ?_
                refine A_aload_n Γ dX1_digest_212 0 rfl ?_
                refine A_aload_n Γ dX1_digest_213 0 rfl ?_
                refine g1_38 Γ Ξ dX1_digest_214 ?_
                refine A_iload_n Γ dX1_digest_217 1 rfl ?_
                replace eL55 := b1 eL55
                obtain ⟨v71, e72, eL55⟩ := eL55
                refine r1_38 Γ Ξ e72 dX1_digest_218 ?_
                replace eL55 := b1 eL55
                obtain ⟨σ74, e73, eL55⟩ := eL55
                refine kX1_X1mix Γ Ξ hRm (by decide) (by decide) e73 (Nat.le_of_ble_eq_true rfl) dX1_digest_219 ?_
                refine A_iinc (v := x57 + 1) (lv' := [(1, .int (x57 + 1)), (0, .ref (xo X))]) Γ dX1_digest_222 1 rfl rfl (by decide) rfl ?_
                refine A_goto (t := 174) Γ dX1_digest_225 (by decide) ?_
                exact A_sub [1, 0] rfl (ihL55 _ _ (lpc2 eL55 hqL55))
          exact A_sub [1, 0] rfl (hLL55 _ _ _ eLL55)
        replace eLL43 := lq2_ex eLL43
        obtain ⟨nL43, eLL43⟩ := eLL43
        have hLL43 : ∀ (nL43 : Nat) (σ44 : St) (x45 : Int32), lpf2 (m_digest_L43) nL43 σ44 x45 = some σ46 → At G 3 σ44 [(0, .ref (xo X)), (1, .int x45)] [] 137 := by
          intro nL43
          induction nL43 with
          | zero => intro σ44 x45 eL43; exact (lpf2_0 eL43).elim
          | succ nL43 ihL43 =>
            intro σ44 x45 eL43
            replace eL43 := lpf2_s eL43
            obtain ⟨qL43, eL43, hqL43⟩ := eL43
            rw [m_digest_L43] at eL43
            refine A_iload_n Γ dX1_digest_137 1 rfl ?_
            refine A_bipush (v := 6) Γ dX1_digest_138 (by decide) ?_
            refine A_icmp_ge (t := 172) Γ dX1_digest_140 (by decide) (fun c => ?_) (fun c => ?_)
            · replace eL43 := it_t c eL43
              obtain rfl := pr1 (lpx2 eL43 hqL43)
              exact A_sub [0] rfl hXL43
            · replace eL43 := it_f c eL43
              refine A_iconst (v := 0) Γ dX1_digest_143 (by decide) ?_
              refine A_istore_n (lv' := [(2, .int 0), (0, .ref (xo X)), (1, .int x45)]) Γ dX1_digest_144 (by decide) rfl ?_
              replace eL43 := b1 eL43
              obtain ⟨σ50, eLL47, eL43⟩ := eL43
              have hXL47 : At G 3 σ50 [(0, .ref (xo X)), (1, .int x45)] [] 166 := by
                refine A_iinc (v := x45 + 1) (lv' := [(1, .int (x45 + 1)), (0, .ref (xo X))]) Γ dX1_digest_166 1 rfl rfl (by decide) rfl ?_
                refine A_goto (t := 137) Γ dX1_digest_169 (by decide) ?_
                exact A_sub [1, 0] rfl (ihL43 _ _ (lpc2 eL43 hqL43))
              replace eLL47 := lq2_ex eLL47
              obtain ⟨nL47, eLL47⟩ := eLL47
              have hLL47 : ∀ (nL47 : Nat) (σ48 : St) (x49 : Int32), lpf2 (m_digest_L47 x45) nL47 σ48 x49 = some σ50 → At G 3 σ48 [(0, .ref (xo X)), (1, .int x45), (2, .int x49)] [] 145 := by
                intro nL47
                induction nL47 with
                | zero => intro σ48 x49 eL47; exact (lpf2_0 eL47).elim
                | succ nL47 ihL47 =>
                  intro σ48 x49 eL47
                  replace eL47 := lpf2_s eL47
                  obtain ⟨qL47, eL47, hqL47⟩ := eL47
                  rw [m_digest_L47] at eL47
                  refine A_iload_n Γ dX1_digest_145 2 rfl ?_
                  refine A_iconst (v := 4) Γ dX1_digest_146 (by decide) ?_
                  refine A_icmp_gt (t := 166) Γ dX1_digest_147 (by decide) (fun c => ?_) (fun c => ?_)
                  · replace eL47 := it_t c eL47
                    obtain rfl := pr1 (lpx2 eL47 hqL47)
                    exact A_sub [0, 1] rfl hXL47
                  · replace eL47 := it_f c eL47
                    refine A_aload_n Γ dX1_digest_150 0 rfl ?_
                    refine A_aload_n Γ dX1_digest_151 0 rfl ?_
                    refine A_iload_n Γ dX1_digest_152 1 rfl ?_
                    refine A_iload_n Γ dX1_digest_153 2 rfl ?_
                    replace eL47 := b1 eL47
                    obtain ⟨v52, e51, eL47⟩ := eL47
                    refine kX1_X1tractorTells Γ Ξ hRm (by decide) (by decide) e51 (Nat.le_of_ble_eq_true rfl) dX1_digest_154 ?_
                    replace eL47 := b1 eL47
                    obtain ⟨σ54, e53, eL47⟩ := eL47
                    refine kX1_X1mix Γ Ξ hRm (by decide) (by decide) e53 (Nat.le_of_ble_eq_true rfl) dX1_digest_157 ?_
                    refine A_iinc (v := x49 + 1) (lv' := [(2, .int (x49 + 1)), (0, .ref (xo X)), (1, .int x45)]) Γ dX1_digest_160 2 rfl rfl (by decide) rfl ?_
                    refine A_goto (t := 145) Γ dX1_digest_163 (by decide) ?_
                    exact A_sub [1, 2, 0] rfl (ihL47 _ _ (lpc2 eL47 hqL47))
              exact A_sub [1, 2, 0] rfl (hLL47 _ _ _ eLL47)
        exact A_sub [1, 0] rfl (hLL43 _ _ _ eLL43)
      replace eLL31 := lq2_ex eLL31
      obtain ⟨nL31, eLL31⟩ := eLL31
      have hLL31 : ∀ (nL31 : Nat) (σ32 : St) (x33 : Int32), lpf2 (m_digest_L31) nL31 σ32 x33 = some σ34 → At G 3 σ32 [(0, .ref (xo X)), (1, .int x33)] [] 97 := by
        intro nL31
        induction nL31 with
        | zero => intro σ32 x33 eL31; exact (lpf2_0 eL31).elim
        | succ nL31 ihL31 =>
          intro σ32 x33 eL31
          replace eL31 := lpf2_s eL31
          obtain ⟨qL31, eL31, hqL31⟩ := eL31
          rw [m_digest_L31] at eL31
          refine A_iload_n Γ dX1_digest_97 1 rfl ?_
          refine A_aload_n Γ dX1_digest_98 0 rfl ?_
          refine g1_16 Γ Ξ dX1_digest_99 ?_
          refine A_icmp_ge (t := 135) Γ dX1_digest_102 (by decide) (fun c => ?_) (fun c => ?_)
          · replace eL31 := it_t c eL31
            obtain rfl := pr1 (lpx2 eL31 hqL31)
            exact A_sub [0] rfl hXL31
          · replace eL31 := it_f c eL31
            refine A_iconst (v := 0) Γ dX1_digest_105 (by decide) ?_
            refine A_istore_n (lv' := [(2, .int 0), (0, .ref (xo X)), (1, .int x33)]) Γ dX1_digest_106 (by decide) rfl ?_
            replace eL31 := b1 eL31
            obtain ⟨σ38, eLL35, eL31⟩ := eL31
            have hXL35 : At G 3 σ38 [(0, .ref (xo X)), (1, .int x33)] [] 129 := by
              refine A_iinc (v := x33 + 1) (lv' := [(1, .int (x33 + 1)), (0, .ref (xo X))]) Γ dX1_digest_129 1 rfl rfl (by decide) rfl ?_
              refine A_goto (t := 97) Γ dX1_digest_132 (by decide) ?_
              exact A_sub [1, 0] rfl (ihL31 _ _ (lpc2 eL31 hqL31))
            replace eLL35 := lq2_ex eLL35
            obtain ⟨nL35, eLL35⟩ := eLL35
            have hLL35 : ∀ (nL35 : Nat) (σ36 : St) (x37 : Int32), lpf2 (m_digest_L35 x33) nL35 σ36 x37 = some σ38 → At G 3 σ36 [(0, .ref (xo X)), (1, .int x33), (2, .int x37)] [] 107 := by
              intro nL35
              induction nL35 with
              | zero => intro σ36 x37 eL35; exact (lpf2_0 eL35).elim
              | succ nL35 ihL35 =>
                intro σ36 x37 eL35
                replace eL35 := lpf2_s eL35
                obtain ⟨qL35, eL35, hqL35⟩ := eL35
                rw [m_digest_L35] at eL35
                refine A_iload_n Γ dX1_digest_107 2 rfl ?_
                refine A_bipush (v := 7) Γ dX1_digest_108 (by decide) ?_
                refine A_icmp_gt (t := 129) Γ dX1_digest_110 (by decide) (fun c => ?_) (fun c => ?_)
                · replace eL35 := it_t c eL35
                  obtain rfl := pr1 (lpx2 eL35 hqL35)
                  exact A_sub [0, 1] rfl hXL35
                · replace eL35 := it_f c eL35
                  refine A_aload_n Γ dX1_digest_113 0 rfl ?_
                  refine A_aload_n Γ dX1_digest_114 0 rfl ?_
                  refine A_iload_n Γ dX1_digest_115 1 rfl ?_
                  refine A_iload_n Γ dX1_digest_116 2 rfl ?_
                  replace eL35 := b1 eL35
                  obtain ⟨v40, e39, eL35⟩ := eL35
                  refine kX1_X1trailerTells Γ Ξ hRm (by decide) (by decide) e39 (Nat.le_of_ble_eq_true rfl) dX1_digest_117 ?_
                  replace eL35 := b1 eL35
                  obtain ⟨σ42, e41, eL35⟩ := eL35
                  refine kX1_X1mix Γ Ξ hRm (by decide) (by decide) e41 (Nat.le_of_ble_eq_true rfl) dX1_digest_120 ?_
                  refine A_iinc (v := x37 + 1) (lv' := [(2, .int (x37 + 1)), (0, .ref (xo X)), (1, .int x33)]) Γ dX1_digest_123 2 rfl rfl (by decide) rfl ?_
                  refine A_goto (t := 107) Γ dX1_digest_126 (by decide) ?_
                  exact A_sub [1, 2, 0] rfl (ihL35 _ _ (lpc2 eL35 hqL35))
            exact A_sub [1, 2, 0] rfl (hLL35 _ _ _ eLL35)
      exact A_sub [1, 0] rfl (hLL31 _ _ _ eLL31)
    replace eLL9 := lq2_ex eLL9
    obtain ⟨nL9, eLL9⟩ := eLL9
    have hLL9 : ∀ (nL9 : Nat) (σ10 : St) (x11 : Int32), lpf2 (m_digest_L9) nL9 σ10 x11 = some σ12 → At G 3 σ10 [(0, .ref (xo X)), (1, .int x11)] [] 32 := by
      intro nL9
      induction nL9 with
      | zero => intro σ10 x11 eL9; exact (lpf2_0 eL9).elim
      | succ nL9 ihL9 =>
        intro σ10 x11 eL9
        replace eL9 := lpf2_s eL9
        obtain ⟨qL9, eL9, hqL9⟩ := eL9
        rw [m_digest_L9] at eL9
        refine A_iload_n Γ dX1_digest_32 1 rfl ?_
        refine A_bipush (v := 64) Γ dX1_digest_33 (by decide) ?_
        refine A_icmp_ge (t := 95) Γ dX1_digest_35 (by decide) (fun c => ?_) (fun c => ?_)
        · replace eL9 := it_t c eL9
          obtain rfl := pr1 (lpx2 eL9 hqL9)
          exact A_sub [0] rfl hXL9
        · replace eL9 := it_f c eL9
          refine A_iload_n Γ dX1_digest_38 1 rfl ?_
          refine A_bipush (v := 8) Γ dX1_digest_39 (by decide) ?_
          refine A_idiv Γ dX1_digest_41 (by decide) ?_
          refine A_iload_n Γ dX1_digest_42 1 rfl ?_
          refine A_bipush (v := 8) Γ dX1_digest_43 (by decide) ?_
          refine A_irem Γ dX1_digest_45 (by decide) ?_
          replace eL9 := b1 eL9
          obtain ⟨σ14, eJ13, eL9⟩ := eL9
          have hJJ13 : At G 3 σ14 [(0, .ref (xo X)), (1, .int x11)] [] 89 := by
            refine A_iinc (v := x11 + 1) (lv' := [(1, .int (x11 + 1)), (0, .ref (xo X))]) Γ dX1_digest_89 1 rfl rfl (by decide) rfl ?_
            refine A_goto (t := 32) Γ dX1_digest_92 (by decide) ?_
            exact A_sub [1, 0] rfl (ihL9 _ _ (lpc2 eL9 hqL9))
          refine A_icmp_ge (t := 89) Γ dX1_digest_46 (by decide) (fun c => ?_) (fun c => ?_)
          · replace eJ13 := it_t c eJ13
            obtain rfl := inj1 eJ13
            exact A_sub [0, 1] rfl hJJ13
          · replace eJ13 := it_f c eJ13
            refine A_aload_n Γ dX1_digest_49 0 rfl ?_
            refine A_aload_n Γ dX1_digest_50 0 rfl ?_
            refine g1_11 Γ Ξ dX1_digest_51 ?_
            refine A_iload_n Γ dX1_digest_54 1 rfl ?_
            replace eJ13 := b1 eJ13
            obtain ⟨v15, e16, eJ13⟩ := eJ13
            refine r1_11 Γ Ξ e16 dX1_digest_55 ?_
            replace eJ13 := b1 eJ13
            obtain ⟨σ18, e17, eJ13⟩ := eJ13
            refine kX1_X1mix Γ Ξ hRm (by decide) (by decide) e17 (Nat.le_of_ble_eq_true rfl) dX1_digest_56 ?_
            refine A_aload_n Γ dX1_digest_59 0 rfl ?_
            refine A_aload_n Γ dX1_digest_60 0 rfl ?_
            refine g1_12 Γ Ξ dX1_digest_61 ?_
            refine A_iload_n Γ dX1_digest_64 1 rfl ?_
            replace eJ13 := b1 eJ13
            obtain ⟨v19, e20, eJ13⟩ := eJ13
            refine r1_12 Γ Ξ e20 dX1_digest_65 ?_
            replace eJ13 := b1 eJ13
            obtain ⟨σ22, e21, eJ13⟩ := eJ13
            refine kX1_X1mix Γ Ξ hRm (by decide) (by decide) e21 (Nat.le_of_ble_eq_true rfl) dX1_digest_66 ?_
            refine A_aload_n Γ dX1_digest_69 0 rfl ?_
            refine A_aload_n Γ dX1_digest_70 0 rfl ?_
            refine g1_13 Γ Ξ dX1_digest_71 ?_
            refine A_iload_n Γ dX1_digest_74 1 rfl ?_
            replace eJ13 := b1 eJ13
            obtain ⟨v23, e24, eJ13⟩ := eJ13
            refine r1_13 Γ Ξ e24 dX1_digest_75 ?_
            replace eJ13 := b1 eJ13
            obtain ⟨σ26, e25, eJ13⟩ := eJ13
            refine kX1_X1mix Γ Ξ hRm (by decide) (by decide) e25 (Nat.le_of_ble_eq_true rfl) dX1_digest_76 ?_
            refine A_aload_n Γ dX1_digest_79 0 rfl ?_
            refine A_aload_n Γ dX1_digest_80 0 rfl ?_
            refine g1_14 Γ Ξ dX1_digest_81 ?_
            refine A_iload_n Γ dX1_digest_84 1 rfl ?_
            replace eJ13 := b1 eJ13
            obtain ⟨v27, e28, eJ13⟩ := eJ13
            refine r1_14 Γ Ξ e28 dX1_digest_85 ?_
            replace eJ13 := b1 eJ13
            obtain ⟨σ30, e29, eJ13⟩ := eJ13
            refine kX1_X1mix Γ Ξ hRm (by decide) (by decide) e29 (Nat.le_of_ble_eq_true rfl) dX1_digest_86 ?_
            obtain rfl := inj1 eJ13
            exact A_sub [0, 1] rfl hJJ13
    exact A_sub [1, 0] rfl (hLL9 _ _ _ eLL9)
  replace eLL1 := lq2_ex eLL1
  obtain ⟨nL1, eLL1⟩ := eLL1
  have hLL1 : ∀ (nL1 : Nat) (σ2 : St) (x3 : Int32), lpf2 (m_digest_L1) nL1 σ2 x3 = some σ4 → At G 3 σ2 [(0, .ref (xo X)), (1, .int x3)] [] 9 := by
    intro nL1
    induction nL1 with
    | zero => intro σ2 x3 eL1; exact (lpf2_0 eL1).elim
    | succ nL1 ihL1 =>
      intro σ2 x3 eL1
      replace eL1 := lpf2_s eL1
      obtain ⟨qL1, eL1, hqL1⟩ := eL1
      rw [m_digest_L1] at eL1
      refine A_iload_n Γ dX1_digest_9 1 rfl ?_
      refine A_bipush (v := 7) Γ dX1_digest_10 (by decide) ?_
      refine A_icmp_gt (t := 30) Γ dX1_digest_12 (by decide) (fun c => ?_) (fun c => ?_)
      · replace eL1 := it_t c eL1
        obtain rfl := pr1 (lpx2 eL1 hqL1)
        exact A_sub [0] rfl hXL1
      · replace eL1 := it_f c eL1
        refine A_aload_n Γ dX1_digest_15 0 rfl ?_
        refine A_aload_n Γ dX1_digest_16 0 rfl ?_
        refine A_iload_n Γ dX1_digest_17 1 rfl ?_
        replace eL1 := b1 eL1
        obtain ⟨v6, e5, eL1⟩ := eL1
        refine kX1_X1counts Γ Ξ hRm (by decide) (by decide) e5 (Nat.le_of_ble_eq_true rfl) dX1_digest_18 ?_
        replace eL1 := b1 eL1
        obtain ⟨σ8, e7, eL1⟩ := eL1
        refine kX1_X1mix Γ Ξ hRm (by decide) (by decide) e7 (Nat.le_of_ble_eq_true rfl) dX1_digest_21 ?_
        refine A_iinc (v := x3 + 1) (lv' := [(1, .int (x3 + 1)), (0, .ref (xo X))]) Γ dX1_digest_24 1 rfl rfl (by decide) rfl ?_
        refine A_goto (t := 9) Γ dX1_digest_27 (by decide) ?_
        exact A_sub [1, 0] rfl (ihL1 _ _ (lpc2 eL1 hqL1))
  exact A_sub [1, 0] rfl (hLL1 _ _ _ eLL1)
theorem mtX1_digest (l : Launch) (X : Xw) {σ σ' : St}  {r : Int64} (h : m_digest σ = some (r, σ')) : MetZ 1 l X yX1_digest cX1_digest 3 (some .long) 1 23 [.ref (xo X)] σ (some (.long r)) σ' := MetZ.ofAt (by decide) (Nat.le_of_ble_eq_true rfl) (fun G _ Γ Ξ hR hret => wkX1_digest Γ Ξ hR h hret)

