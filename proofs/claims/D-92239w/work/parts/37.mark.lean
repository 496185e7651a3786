/-! mark -/
section MarkR
variable {G : Gx} {own : String} {cc : ByteArray} {nL pc : Nat} {σ σ' : St} {lv : List (Nat × Value)} {st0 st : List Value} {X : Xw} {q n : Nat} {v : Value}
/-- a virtual call through a trailer whose own class declares the method -/
theorem A_callT (Γ : Ok G own cc nL) (Ξ : OkX 0 G X) (hq : kTr q) (hL : cL σ q = some n) {y : MethodName} {bytes : ByteArray} {maxL f lo index : Nat} {ret : Option FieldType} {rv : Option Value} (hM : MetZ 0 (gl G) X y bytes maxL ret f lo [.ref (xad X q)] σ rv σ')
    (hG : GoodIn lw_all (wsV own index (CT n) y (ws_ y bytes maxL ret))) (hd : y.cls = CT n ∧ y.cls ≠ "java/lang/invoke/MethodHandle" ∧ y.cls ≠ "java/lang/invoke/VarHandle" ∧ (parseMethodDescriptor y.desc).map (fun d => d.parameters.length) = some 0) (hR : f + 1 ≤ (gR G).frames ∧ 8 + (maxL + 11) + lo ≤ (gR G).locals) (hkk : gk G ≤ (gR G).cells ∧ gn G ≤ (gR G).slots)
    (hW : (st.map fun v => v.category).sum ≤ 8) (d : decode cc pc = .ok (.invokevirtual index, 3)) (kk : At G nL σ' lv (rv.toList ++ st) (pc + 3)) : At G nL σ lv (.ref (xad X q) :: st) pc := by
  refine A_run Ξ (fun H locs ls hP hl => ?_) kk
  have cw : CallW (gR G) (gs G) (gar G) own (CT n) index y bytes maxL ret (ws_ y bytes maxL ret) (rmF f lo) 0 0 0 := cwV 0 Γ.2.2.2.2 hG rfl rfl rfl hd hR
  exact va_runV (As := []) (rest := st) Γ hM cw ⟨PcZ_blind, tr_recv Ξ hP hq hL, PcZ_pre Ξ hP _⟩ (g := F0 (gm G) pc ls (.ref (xad X q) :: st)) rfl rfl hl.1 rfl (lv_room (rest := .ref (xad X q) :: st) (ls := ls) (pc := pc) (m := gm G) hW) d hkk
theorem A_lookup (Γ : Ok G own cc nL) {dflt : Int} {ps : Array (Int × Int)} {len : Nat} {x : Int32} {off : Int} {t : Nat} (d : decode cc pc = .ok (.lookupswitch dflt ps, len)) (hp : (ps.toList.zip (ps.toList.drop 1)).all (fun (a, next) => a.1 < next.1) = true) (ho : Op.lookupswitch.offset ps.toList dflt x.toInt = off) (ht : (pc : Int) + off = (t : Int)) (k : At G nL σ lv st t) : At G nL σ lv (.int x :: st) pc := fun H locs ls hS hP hl => lv_lookup Γ.1 Γ.2.1 d hp ho ht (k H locs ls hS hP hl)
end MarkR
theorem xh_cce2 {G : Gx} {cc : ByteArray} {nL pc : Nat} {X : Xw} (Γ : Ok G RX0 cc nL) (hXT : XT X (gs G)) (hpc : pc = 53 ∨ pc = 84 ∨ pc = 96) : XcAt (gar G) (gs G) RX0 pc nCCE [(26, 82, 107, 309), (83, 94, 107, 309), (95, 106, 107, 309)] 107 := by
  rcases hpc with rfl | rfl | rfl
  · exact xh_cce1 Γ hXT (by decide) (by decide)
  · exact Or.inr ⟨by decide, xh_cce1 Γ hXT (by decide) (by decide)⟩
  · exact Or.inr ⟨by decide, Or.inr ⟨by decide, xh_cce1 Γ hXT (by decide) (by decide)⟩⟩
noncomputable def c_mark (σ : St) (a1 a2 : Int32) : Option (Int32 × St) :=
  B1 (c_isTrailer σ a1) fun v2 =>
  if v2 = 0 then (some ((-1), σ)) else
  B1 (c_in a2 1 3) fun v3 =>
  if v3 = 0 then (some ((-1), σ)) else
  B1 (ixD σ 120 12 a1) fun k =>
  B1 (cL σ (120 + k)) fun n =>
  if a2 = 1 then
    (if n = 1 ∨ n = 3 then (B1 (rdT σ (120 + k) 11) fun r => some (r, σ)) else c_found σ 3)
  else if a2 = 2 then
    (if n = 2 then (B1 (tr_mark σ (120 + k)) fun r => some (r, σ)) else c_found σ 3)
  else
    (if n = 3 then (B1 (rdT σ (120 + k) 13) fun r => some (r, σ)) else c_found σ 3)
set_option maxHeartbeats 4000000 in
set_option maxRecDepth 100000 in
theorem mtX0_mark (l : Launch) (htr : l.stackTraces = false) (X : Xw) {σ σ' : St} {a1 a2 : Int32} {r : Int32} (h : c_mark σ a1 a2 = some (r, σ')) : MetE l X yX0_mark cX0_mark 7 (some .int) [(26, 82, 107, 309), (83, 94, 107, 309), (95, 106, 107, 309)] eF eLo eMc eMs [.ref (xo X), .int a1, .int a2] σ (some (.int r)) σ' := MetE.of0 (by decide) (Nat.le_of_ble_eq_true rfl) (fun G hl Γ Ξ hXT hrows hRE hret => by
  rw [c_mark] at h
  have hRU : Rm (gUp G eMc eMs) eF eLo := hRE.rmU (Nat.le_refl _) (Nat.le_refl _)
  have hRm : Rm G eF eLo := hRE.rm (Nat.le_refl _) (Nat.le_refl _)
  have hup : ∀ {σ : St} {lv : List (Nat × Value)} {st : List Value} {pc : Nat}, At (gUp G eMc eMs) 7 σ lv st pc → At G 7 σ lv st pc := fun k => A_up (k := eMc) (n := eMs) (by rw [hRE.2.1]; exact Nat.zero_le _) (by rw [hRE.2.2]; exact Nat.zero_le _) k
  have hlv : lv_args 0 [.ref (xo X), .int a1, .int a2] = [(0, .ref (xo X)), (1, .int a1), (2, .int a2)] := rfl
  rw [hlv]
  refine A_aload_n Γ dX0_mark_0 0 rfl ?_
  refine A_iload_n Γ dX0_mark_1 1 rfl ?_
  replace h := b1 h
  obtain ⟨v2, e1, h⟩ := h
  refine kX0_X0isTrailer Γ Ξ hRm (by decide) (by decide) e1 (Nat.le_of_ble_eq_true rfl) dX0_mark_2 ?_
  refine A_if_eq (t := 17) Γ dX0_mark_5 (by decide) (fun c => ?_) (fun c => ?_)
  · replace h := it_t c h
    refine A_iconst (v := (-1)) Γ dX0_mark_17 (by decide) ?_
    obtain ⟨rfl, rfl⟩ := inj2 h
    exact hup (hret _ _ dX0_mark_18)
  · replace h := it_f c h
    refine A_iload_n Γ dX0_mark_8 2 rfl ?_
    refine A_iconst (v := 1) Γ dX0_mark_9 (by decide) ?_
    refine A_iconst (v := 3) Γ dX0_mark_10 (by decide) ?_
    replace h := b1 h
    obtain ⟨v3, e2, h⟩ := h
    refine kX0_X0in Γ (kpX Ξ) hRm (by decide) (by decide) e2 (Nat.le_of_ble_eq_true rfl) dX0_mark_11 ?_
    refine A_if_ne (t := 19) Γ dX0_mark_14 (by decide) (fun c => ?_) (fun c => ?_)
    · replace h := it_f c h
      replace h := b1 h
      obtain ⟨k, e3, h⟩ := h
      replace h := b1 h
      obtain ⟨n, hL, h⟩ := h
      have hq := kTr_tD e3
      refine A_aload_n Γ dX0_mark_19 0 rfl ?_
      refine g0_18 Γ Ξ dX0_mark_20 ?_
      refine A_iload_n Γ dX0_mark_23 1 rfl ?_
      refine A_trsD Γ Ξ e3 dX0_mark_24 ?_
      refine A_astore_n (lv' := [(3, .ref (xad X (120 + k))), (0, .ref (xo X)), (1, .int a1), (2, .int a2)]) Γ dX0_mark_25 (by decide) rfl ?_
      refine A_iload_n Γ dX0_mark_26 3 rfl ?_
      have hfall : ∀ (pc : Nat) (st : List Value) (nm : String) (index : Nat), (pc = 53 ∨ pc = 84 ∨ pc = 96) → Cond.classLink RX0 index nm ∈ lw_all → (n < 4 → va_Nc (CT n) nm (gs G)) → ((dotted nm).toList.length ≤ 40 ∧ packageOf nm = "") → decode cX0_mark pc = .ok (.checkcast index, 3) → c_found σ 3 = some (r, σ') → At G 7 σ [(3, .ref (xad X (120 + k))), (0, .ref (xo X)), (1, .int a1), (2, .int a2)] [.ref (xad X (120 + k))] pc := fun pc st nm index hpc hlk hno hpl d hf => by
        refine E_msgX Γ Ξ hXT (by rw [hl]; exact htr) hRE xm_cce (by decide +kernel) (by decide) hrows (xh_cce2 Γ hXT hpc) (thr_cce Γ Ξ hXT hq hL hlk hno hpl (Nat.le_of_ble_eq_true rfl) d) (fun ea => ?_)
        refine A_astore (G := gUp G eMc eMs) (lv' := [(4, .ref ea), (3, .ref (xad X (120 + k))), (0, .ref (xo X)), (1, .int a1), (2, .int a2)]) Γ dX0_mark_107 (by decide) rfl ?_
        refine A_aload_n (G := gUp G eMc eMs) Γ dX0_mark_109 2 rfl ?_
        refine A_iconst (G := gUp G eMc eMs) (v := 3) Γ dX0_mark_110 (by decide) ?_
        refine kX0_X0found (G := gUp G eMc eMs) Γ Ξ hRU (by decide) (by decide) hf (Nat.le_of_ble_eq_true rfl) dX0_mark_111 ?_
        exact hret _ _ dX0_mark_114
      by_cases c1 : a2 = 1
      · replace h := it_t c1 h
        refine A_lookup (off := 25) (t := 52) Γ dX0_mark_27 (by decide) (by rw [c1]; decide) (by decide) ?_
        refine A_aload_n Γ dX0_mark_52 0 rfl ?_
        by_cases hn : n = 1 ∨ n = 3
        · replace h := it_t hn h
          replace h := b1 h
          obtain ⟨r1, e4, h⟩ := h
          obtain ⟨rfl, rfl⟩ := inj2 h
          rcases hn with rfl | rfl
          · refine A_castY Γ Ξ hq hL rfl q605 (Or.inr rfl) dX0_mark_53 ?_
            refine A_astore (lv' := [(4, .ref (xad X (120 + k))), (3, .ref (xad X (120 + k))), (0, .ref (xo X)), (1, .int a1), (2, .int a2)]) Γ dX0_mark_56 (by decide) rfl ?_
            refine A_aload Γ dX0_mark_58 0 rfl ?_
            refine A_instN Γ Ξ hq hL rfl q653 dX0_mark_60 ?_
            refine A_if_eq (t := 77) Γ dX0_mark_63 (by decide) (fun _ => ?_) (fun c => absurd rfl c)
            refine A_aload Γ dX0_mark_77 0 rfl ?_
            refine A_callT (n := 1) Γ Ξ hq hL (mtX3_mark (gl G) X hq e4) (lw_V q736 q734 q1691 q76 q735) (by decide +kernel) (rm_ok hRm (by decide) (by decide)) (rm_k hRm) (Nat.le_of_ble_eq_true rfl) dX0_mark_79 ?_
            exact hup (hret _ _ dX0_mark_82)
          · refine A_castY Γ Ξ hq hL rfl q605 (Or.inl (List.mem_of_getElem? (i := 5) rfl)) dX0_mark_53 ?_
            refine A_astore (lv' := [(4, .ref (xad X (120 + k))), (3, .ref (xad X (120 + k))), (0, .ref (xo X)), (1, .int a1), (2, .int a2)]) Γ dX0_mark_56 (by decide) rfl ?_
            refine A_aload Γ dX0_mark_58 0 rfl ?_
            refine A_instY Γ Ξ hq hL rfl q653 dX0_mark_60 ?_
            refine A_if_eq (t := 77) Γ dX0_mark_63 (by decide) (fun c => absurd c (by decide)) (fun _ => ?_)
            refine A_aload Γ dX0_mark_66 0 rfl ?_
            refine A_castY Γ Ξ hq hL rfl q653 (Or.inr rfl) dX0_mark_68 ?_
            refine A_callT (n := 3) Γ Ξ hq hL (mtX5_asCold (gl G) X hq hL e4) (lw_V q729 q730 q731 q78 q732) (by decide +kernel) (rm_ok hRm (by decide) (by decide)) (rm_k hRm) (Nat.le_of_ble_eq_true rfl) dX0_mark_71 ?_
            refine A_goto (t := 82) Γ dX0_mark_74 (by decide) ?_
            exact hup (hret _ _ dX0_mark_82)
        · replace h := it_f hn h
          refine hfall 53 [] RX3 255 (Or.inl rfl) q605 (fun h4 => ?_) RX3_plain dX0_mark_53 h
          match n, h4 with
          | 0, _ => exact xt_no hXT 1 rfl
          | 1, _ => exact absurd (Or.inl rfl) hn
          | 2, _ => exact xt_no hXT 2 rfl
          | 3, _ => exact absurd (Or.inr rfl) hn
      · replace h := it_f c1 h
        by_cases c2 : a2 = 2
        · replace h := it_t c2 h
          refine A_lookup (off := 56) (t := 83) Γ dX0_mark_27 (by decide) (by rw [c2]; decide) (by decide) ?_
          refine A_aload_n Γ dX0_mark_83 0 rfl ?_
          by_cases hn : n = 2
          · replace h := it_t hn h
            replace h := b1 h
            obtain ⟨r1, e4, h⟩ := h
            obtain ⟨rfl, rfl⟩ := inj2 h
            subst hn
            refine A_castY Γ Ξ hq hL rfl q632 (Or.inr rfl) dX0_mark_84 ?_
            refine A_astore (lv' := [(5, .ref (xad X (120 + k))), (3, .ref (xad X (120 + k))), (0, .ref (xo X)), (1, .int a1), (2, .int a2)]) Γ dX0_mark_87 (by decide) rfl ?_
            refine A_aload Γ dX0_mark_89 0 rfl ?_
            refine A_callT (n := 2) Γ Ξ hq hL (mtX4_mark (gl G) X hq hL e4) (lw_V q739 q740 q741 q77 q742) (by decide +kernel) (rm_ok hRm (by decide) (by decide)) (rm_k hRm) (Nat.le_of_ble_eq_true rfl) dX0_mark_91 ?_
            exact hup (hret _ _ dX0_mark_94)
          · replace h := it_f hn h
            refine hfall 84 [] RX4 258 (Or.inr (Or.inl rfl)) q632 (fun h4 => ?_) RX4_plain dX0_mark_84 h
            match n, h4 with
            | 0, _ => exact xt_no hXT 3 rfl
            | 1, _ => exact xt_no hXT 4 rfl
            | 2, _ => exact absurd rfl hn
            | 3, _ => exact xt_no hXT 5 rfl
        · replace h := it_f c2 h
          refine A_lookup (off := 68) (t := 95) Γ dX0_mark_27 (by decide) ?_ (by decide) ?_
          · show Op.lookupswitch.offset [(1, 25), (2, 56)] 68 a2.toInt = 68
            rw [lv_osw (k := 1) c1 (by decide), lv_osw (k := 2) c2 (by decide)]
            rfl
          refine A_aload_n Γ dX0_mark_95 0 rfl ?_
          by_cases hn : n = 3
          · replace h := it_t hn h
            replace h := b1 h
            obtain ⟨r1, e4, h⟩ := h
            obtain ⟨rfl, rfl⟩ := inj2 h
            subst hn
            refine A_castY Γ Ξ hq hL rfl q653 (Or.inr rfl) dX0_mark_96 ?_
            refine A_astore (lv' := [(6, .ref (xad X (120 + k))), (3, .ref (xad X (120 + k))), (0, .ref (xo X)), (1, .int a1), (2, .int a2)]) Γ dX0_mark_99 (by decide) rfl ?_
            refine A_aload Γ dX0_mark_101 0 rfl ?_
            refine A_callT (n := 3) Γ Ξ hq hL (mtX5_mark (gl G) X hq e4) (lw_V q747 q737 q1693 q78 q738) (by decide +kernel) (rm_ok hRm (by decide) (by decide)) (rm_k hRm) (Nat.le_of_ble_eq_true rfl) dX0_mark_103 ?_
            exact hup (hret _ _ dX0_mark_106)
          · replace h := it_f hn h
            refine hfall 96 [] RX5 261 (Or.inr (Or.inr rfl)) q653 (fun h4 => ?_) RX5_plain dX0_mark_96 h
            match n, h4 with
            | 0, _ => exact xt_no hXT 6 rfl
            | 1, _ => exact xt_no hXT 7 rfl
            | 2, _ => exact xt_no hXT 8 rfl
            | 3, _ => exact absurd rfl hn
    · replace h := it_t c h
      refine A_iconst (v := (-1)) Γ dX0_mark_17 (by decide) ?_
      obtain ⟨rfl, rfl⟩ := inj2 h
      exact hup (hret _ _ dX0_mark_18))
