/-! the law: the tables' words at its start -/
def tb2 : List Cond := lw_tbl ++ [.isRef (.static Bundle.tN "UNASSIGNED_STACK" Bundle.steD), .isRef (.static Bundle.tN "SUPPRESSED_SENTINEL" Bundle.listD)]
def xtI : List Nat := [65, 382, 324, 344, 347, 349, 383, 384, 92, 93, 318, 323, 345, 352, 376, 353, 377, 354, 378, 319, 320, 321, 322, 379, 316, 317, 351, 379, 307, 308, 309, 310, 370, 310, 311, 312, 313, 372, 313, 314, 315, 316, 374, 69, 385, 386, 387, 389, 388, 390, 68, 306, 368, 375, 329, 359, 361, 365, 357, 1699, 1700, 350, 380, 355, 65, 382, 324, 344, 347, 349, 383, 384, 92, 93, 318, 323, 345, 352, 376, 353, 377, 354, 378, 319, 320, 321, 322, 379, 316, 317, 351, 379, 432, 433, 434, 435, 447, 435, 436, 437, 310, 370, 310, 311, 312, 313, 372, 313, 314, 315, 316, 374, 69, 385, 386, 387, 389, 388, 390, 72, 431, 445, 448, 327, 440, 441, 443, 439, 1699, 1700, 350, 380, 438, 65, 382, 324, 344, 347, 349, 383, 384, 92, 93, 318, 323, 345, 352, 376, 353, 377, 354, 378, 319, 320, 321, 322, 379, 316, 317, 351, 379, 470, 471, 472, 310, 370, 310, 311, 312, 313, 372, 313, 314, 315, 316, 374, 69, 385, 386, 387, 389, 388, 390, 80, 469, 480, 481, 326, 475, 476, 478, 474, 1699, 1700, 350, 380, 473, 65, 382, 324, 344, 347, 349, 383, 384, 92, 93, 318, 323, 345, 352, 376, 353, 377, 354, 378, 319, 320, 321, 322, 379, 316, 317, 351, 379, 717, 718, 719, 310, 370, 310, 311, 312, 313, 372, 313, 314, 315, 316, 374, 69, 385, 386, 387, 389, 388, 390, 79, 716, 727, 728, 328, 722, 723, 725, 721, 1699, 1700, 350, 380, 720, 65, 382, 324, 344, 347, 349, 383, 384, 92, 93, 318, 323, 345, 352, 376, 353, 377, 354, 378, 319, 320, 321, 322, 379, 341, 331, 332, 415, 417, 338, 339, 429, 406, 407, 408, 409, 369, 409, 410, 411, 412, 371, 412, 413, 414, 383, 373, 70, 336, 427, 428, 330, 423, 424, 426, 1699, 1700, 350, 380, 421, 1694]
set_option maxRecDepth 100000 in
theorem xtw_at : xtw = xtI.filterMap (fun i => tb2[i]?) := by decide +kernel
theorem va_Dd.of {C : String} {x : MethodName} {A : Array Value} {s : State} (hx : x.cls ≠ "java/lang/invoke/MethodHandle" ∧ x.cls ≠ "java/lang/invoke/VarHandle") (h : (Cond.landsInDefault C x x).before A s = true) : va_Dd C x s := by
  simp only [Cond.before, Cond.holds, Cond.value, beq_iff_eq] at h
  split at h
  · rename_i c r m h1 h2 h3
    have e : m = r := Option.some.inj ((State.methodFound?_of_named h3 hx).symm.trans h2)
    rw [e] at h3 h
    refine ⟨c, r, h1, h3, ?_⟩
    cases hm : s.vm.method? r with
    | none => rw [hm] at h; cases h
    | some rm =>
      rw [hm] at h
      simp only [Option.map_some, Option.some.injEq] at h
      split at h
      · rename_i m' hs
        simp only [Bool.and_eq_true, decide_eq_true_eq] at h
        rw [hs, h.1.1.1.1]
      · cases h
  · cases h
theorem arr_of {t : FieldType} {A : Array Value} {s : State} (h : (Cond.arrayClass t).before A s = true) : ∃ c, ArrOfT s c t ∧ s.vm.findClass ("[" ++ t.toString) = some c := by
  obtain ⟨c, k, comp, h1, h2, h3⟩ := Cond.arrayClass_spec h
  exact ⟨c, fun N z => ⟨(fun k h => by cases h), k, h2, comp, h3⟩, h1⟩
theorem arr_ofA {t : FieldType} {A : Array Value} {s : State} (h : (Cond.arrayOver (.array t)).before A s = true) : ∃ comp c, ArrOfT s c (.array t) ∧ s.vm.findClass ("[" ++ (FieldType.array t).toString) = some c ∧ s.vm.findClass (FieldType.array t).toString = some comp ∧ ∃ k : Class, s.vm.classes[c]? = some k ∧ k.kind = .array comp (.array t) := by
  obtain ⟨comp, c, k, h1, h2, h3, h4, h5⟩ := arrayOverA_spec h
  exact ⟨comp, c, fun N z => ⟨(fun k h => by cases h), k, h3, comp, h4⟩, h5, h1, k, h3, h4⟩
theorem lw_words {s : State} {b : Nat} (hts : ∀ w ∈ lw_tbl, w.before #[Value.ref b] s = true) (hgv : (Jvm.Cond.and given_1 narrow_1).before #[Value.ref b] s = true) (hmr : modulesRight_1 s = true) : ∃ (C : Nat → ClassId) (I : Nat → Nat → Nat) (A : Nat → ClassId), (∀ (o : Nat) (ad : Nat → Nat) (R' : Nat → Prop), KX (o, ad, C, I, A, R') s ∧ XL (o, ad, C, I, A, R') s) ∧ XK s ∧ XW s ∧ XO s := by
  have hall : ∀ w ∈ lw_all, w.before #[Value.ref b] s = true := fun w h => hts w (lw_all_tbl h)
  have hfl := flat_of_before _ hgv
  obtain ⟨c0, i0, k0⟩ := u_known hall in_X0 (hall _ q87)
  obtain ⟨c1, i1, k1⟩ := u_known hall in_X1 (hall _ q1063)
  obtain ⟨c2, i2, k2⟩ := u_known hall in_X2 (hall _ q557)
  obtain ⟨c3, i3, k3⟩ := u_known hall in_X3 (hall _ q606)
  obtain ⟨c4, i4, k4⟩ := u_known hall in_X4 (hall _ q633)
  obtain ⟨c5, i5, k5⟩ := u_known hall in_X5 (hall _ q654)
  obtain ⟨a0, r0, f0⟩ := arr_of (hall _ q291)
  obtain ⟨a1, r1, f1⟩ := arr_of (hall _ q292)
  obtain ⟨a2, r2, f2⟩ := arr_of (hall _ q386)
  obtain ⟨a3, r3, f3⟩ := arr_of (hall _ q1288)
  obtain ⟨p4, a4, r4, f4, g4, kk4, h4, h4'⟩ := arr_ofA (hts _ q95)
  obtain ⟨p5, a5, r5, f5, g5, kk5, h5, h5'⟩ := arr_ofA (hts _ q97)
  obtain ⟨p6, a6, k6, e1, -, e3, e4, e5⟩ := Cond.arrayOver_spec (hts _ q99)
  have hp4 : p4 = a0 := Option.some.inj (g4.symm.trans f0)
  have hp5 : p5 = a2 := Option.some.inj (g5.symm.trans f2)
  have hnc : ∀ q ∈ xtn, va_Nc q.1 q.2 s := by
    have h : ∀ q ∈ xtn, Cond.not (.castable q.1 q.2) ∈ flatC (Jvm.Cond.and given_1 narrow_1) := by decide +kernel
    exact fun q hq => va_Nc.of (hfl _ (h q hq))
  have hw2 : ∀ w ∈ tb2, w.before #[Value.ref b] s = true := fun w hw => by
    rcases List.mem_append.mp hw with h | h
    · exact hts w h
    · have hm : ∀ w ∈ [Cond.isRef (.static Bundle.tN "UNASSIGNED_STACK" Bundle.steD), Cond.isRef (.static Bundle.tN "SUPPRESSED_SENTINEL" Bundle.listD)], w ∈ flatC (Jvm.Cond.and given_1 narrow_1) := by decide +kernel
      exact hfl w (hm w h)
  have hxt : ∀ w ∈ xtw, w.before #[] s = true := fun w hw => by
    refine okw_any (List.all_eq_true.mp xtw_ok w hw) (A := #[Value.ref b]) (hw2 w ?_)
    rw [xtw_at] at hw
    obtain ⟨i, -, hi⟩ := List.mem_filterMap.mp hw
    exact List.mem_of_getElem? hi
  refine ⟨fun k => match k with | 0 => c0 | 1 => c1 | 2 => c2 | 3 => c3 | 4 => c4 | _ => c5, fun k => match k with | 0 => i0 | 1 => i1 | 2 => i2 | 3 => i3 | 4 => i4 | _ => i5, fun k => match k with | 0 => a0 | 1 => a1 | 2 => a2 | 3 => a3 | 4 => a4 | 5 => a5 | _ => a6, fun o ad R' => ⟨⟨fun k q hq => ?_, fun k q hq => ?_⟩, hxt, hnc, ⟨kk4, h4, by rw [hp4] at h4'; exact h4'⟩, ⟨kk5, h5, by rw [hp5] at h5'; exact h5'⟩, hmr⟩, ⟨fun w hw => ?_, ⟨?_, ?_, ?_, ?_⟩, hnc (RX3, RX5) (by decide +kernel), ?_, ?_⟩, ⟨va_Nw.of rfl (hts _ q1696), va_Nw.of rfl (hts _ q1697), va_Nw.of rfl (hts _ q1698)⟩, over_moved (Vm.Alike.refl _) (hts _ q95), over_moved (Vm.Alike.refl _) (hts _ q97), va_AO.of (hts _ q99)⟩
  · match k, hq with
    | 0, hq => cases hq; exact k0
    | 1, hq => cases hq; exact k1
    | 2, hq => cases hq; exact k2
    | 3, hq => cases hq; exact k3
    | 4, hq => cases hq; exact k4
    | 5, hq => cases hq; exact k5
    | k + 6, hq => cases hq
  · match k, hq with
    | 0, hq => cases hq; exact ⟨r0, f0⟩
    | 1, hq => cases hq; exact ⟨r1, f1⟩
    | 2, hq => cases hq; exact ⟨r2, f2⟩
    | 3, hq => cases hq; exact ⟨r3, f3⟩
    | 4, hq => cases hq; exact ⟨r4, f4⟩
    | 5, hq => cases hq; exact ⟨r5, f5⟩
    | 6, hq => cases hq; exact ⟨fun N z => ⟨(fun k h => by cases h), k6, e3, p6, e4⟩, k6, p6, e3, e4, e1, e5⟩
    | k + 7, hq => cases hq
  · simp only [xks, List.mem_cons, List.not_mem_nil, or_false] at hw
    rcases hw with rfl | rfl | rfl | rfl | rfl | rfl
    · exact va_Nw.of rfl (hts _ q122)
    · exact va_Nw.of rfl (hts _ q124)
    · exact va_Nw.of rfl (hts _ q111)
    · exact va_Nw.of rfl (hts _ q128)
    · exact va_Nw.of rfl (hts _ q743)
    · exact va_Nw.of rfl (hts _ q1695)
  · exact va_Fw.of (hts _ q899) (hts _ q898) (hts _ q912) (hts _ q915) (hts _ q914)
  · exact va_Fw.of (hts _ q899) (hts _ q898) (hts _ q904) (hts _ q902) (hts _ q900)
  · exact va_Fw.of (hts _ q899) (hts _ q898) (hts _ q912) (hts _ q910) (hts _ q909)
  · exact va_Fw.of (hts _ q899) (hts _ q898) (hts _ q904) (hts _ q908) (hts _ q906)
  · exact va_Dd.of (by decide) (hfl (Cond.landsInDefault RX2 jC jC) (by decide +kernel))
  · exact va_Dd.of (by decide) (hfl (Cond.landsInDefault RX4 jC jC) (by decide +kernel))
/-! THE CLAIM OUT OF ONE WALK OF THE LAW'S BODY -/
def lw_P (b : Addr) (xs : List Int32) (args : Array Value) (s : State) : Prop := args = #[.ref b] ∧ s.IntsAt b xs ∧ xs.length ≤ 448 ∧ (Jvm.Cond.and given_1 narrow_1).before args s = true ∧ modulesRight_1 s = true
def lw_Q (_ : Array Value) (s : State) (o : Outcome) (t : State) : Prop := o = .returned (some (.int 1)) ∧ Framed s o t [] 603072 7262314
def lw_Z (below : List Frame) (a : Array Value) (s : State) : State → Prop := fun t => ∃ o, t.status = .running ∧ Ended t below o ∧ lw_Q a s o t
/-- the law's own end, with 1 on the stack, nothing written that was there before, its room as the claim has it -/
theorem lw_ret {p : Program} {l : Launch} {e : Env} {s : State} {m : MethodId} {below : List Frame} {meth : Method} {c : Code} {b : Nat} (hx : p.tables.exec = Jvm.exec) (hb : c.code = code) (hr : meth.sig.returnType = ret) (hlocks : meth.locks = false) {pc : Nat} {H : Heap} {ls : Array Slot} (hdg : decode code pc = .ok (.ireturn, 1)) : W p l e room_1 s m #[Value.ref b] below meth c H [] 603072 7262314 (lw_Z below #[Value.ref b] s) (F0 m pc ls [.int 1]) := by
  intro T hT X
  obtain ⟨fs, hret, hrun, hended, hW, hframe⟩ := X.leave (v := some (.int 1)) (hlocks := hlocks) (fun h => by rw [hr] at h; cases h)
  have hmeth' : T.vm.method? m = some meth := X.method'
  refine ⟨T.setFrames fs, ?_, .returned (some (.int 1)), hrun, hended, rfl, ⟨_, rfl⟩, hW, hframe⟩
  jvm_step X.here [X.here.top, hx, hb, hdg, hmeth', hr, ret, narrow_b1]
  (try refine ⟨rfl, ?_⟩); (try refine ⟨rfl, ?_⟩)
  first | (intro acts; rw [hret _ acts rfl rfl rfl]) | rw [hret _ _ rfl rfl rfl]
  exact Steps.refl _
/-- what holds at the law's entry -/
def lw_At (p : Program) (s : State) (m : MethodId) (meth : Method) (c : Code) (b L : Nat) (xs : Nat → Int32) : Prop :=
  p.tables.exec = Jvm.exec ∧ c.code = code ∧ meth.sig.returnType = ret ∧ c.maxLocals = 4 ∧ s.vm.findClass R_law = some m.cls ∧ (∀ w ∈ lw_tbl, w.before #[Value.ref b] s = true) ∧ va_X b L xs s s.heap ∧ b < s.heap.size ∧ meth.locks = false ∧ (Jvm.Cond.and given_1 narrow_1).before #[Value.ref b] s = true ∧ modulesRight_1 s = true
set_option maxHeartbeats 4000000 in
set_option maxRecDepth 100000 in
theorem whole_start {p : Program} {e : Env} {s : State} {m : MethodId} {below : List Frame} {meth : Method} {c : Code} (l : Launch) (hst : l.stackTraces = false) {b L : Nat} {xs : Nat → Int32} (hL : L ≤ 448) (C0 : lw_At p s m meth c b L xs) : W p l e room_1 s m #[Value.ref b] below meth c s.heap [] 0 0 (lw_Z below #[Value.ref b] s) (entryFrame m ([Value.ref b] : List Value).toArray 4) := by
  obtain ⟨hx, hb, hr, hml, hown, hts, hX, hbl, hlocks, hgv, hmr⟩ := C0
  have hall : ∀ w ∈ lw_all, w.before #[Value.ref b] s = true := fun w h => hts w (lw_all_tbl h)
  obtain ⟨Cc, I, A, hKL, hXK, hXW, hXO⟩ := lw_words hts hgv hmr
  have hl := lv_entry [Value.ref b] (n := 4) (Nat.le_of_ble_eq_true rfl)
  rw [lg_entry_eq]
  generalize (lg_sl [Value.ref b] ++ List.replicate (4 - (lg_sl [Value.ref b]).length) Slot.unset).toArray = ls at hl ⊢
  let G : Gx := (p, l, e, room_1, s, m, #[Value.ref b], below, meth, c, 0, 0, lw_Z below #[Value.ref b] s, (fun _ _ => True), fun q => s.heap.size ≤ q)
  have Γ : Ok G R_law code 4 := ⟨hx, hb, hml, hown, hall⟩
  have hC : LC G b L xs := ⟨hX, hbl, hL, rfl⟩
  have hgA : gA G = rA G := rfl
  have E : ∀ (k n : Nat) (P : St → Heap → Prop) (σ : St) (lv : List (Nat × Value)), k ≤ 603072 → n ≤ 7262314 → At (gX G k n P) 4 σ lv [.int 1] 2183 := fun k n P σ lv hk hn H locs ls hS hP hl => by
    show W p l e room_1 s m #[Value.ref b] below meth c H locs k n (lw_Z below #[Value.ref b] s) (F0 m 2183 ls [.int 1])
    exact va_forget (fun q hq => hS.2.2 q hq) (W.widen hk hn (lw_ret hx hb hr hlocks dL_law_2183))
  have start : At (gX G 0 0 (fun _ _ => True)) 4 st0 [(0, .ref b)] [] 0 := by
    refine L_new (z := 0) (X := (0, fun _ => 0, Cc, I, A, fun _ => True)) Γ (hKL _ _ _).1 hgA (fun _ => False) (fun _ _ _ h => h) (fun _ _ _ h => h.elim) in_X0 rfl tyX0_ok dfl_ok.1 q86 q87 q63 (by show 0 + 1 ≤ 603072; omega) (by show 0 + 62 ≤ 7262314; omega) dL_law_0 (fun o => ?_)
    refine A_dup (G := gX G 1 62 (NP 0 (0, fun _ => 0, Cc, I, A, fun _ => True) (fun _ _ => True) (fun _ => False) (rA G) o)) Γ dL_law_3 rfl ?_
    refine L_init (c := 1) (n := 62) (σ' := sx0_12) (P' := fun ad σ H => Pic 0 (o, ad, Cc, I, A, rA G) σ H) Γ (hKL _ _ _).1 hXK hXO hgA (fun Y => mtX0_init l Y) q63 q88 q89 q90 (by decide +kernel) ⟨by show 2 ≤ 2048; omega, by show 41 ≤ 94400; omega⟩ ⟨by show 1 + 42 ≤ 603072; omega, by show 62 + 2610 ≤ 7262314; omega⟩ (Nat.le_of_ble_eq_true rfl) dL_law_4 (fun H H' ad _ hAo _ hsz _ _ hP => ?_) (fun ad => ?_)
    · have := Pic.rg (R' := rA G) hP (fun q hq => by
        rcases (hP.ow hq).1 with g | g
        · rw [g]; exact hAo
        · exact Nat.le_trans hsz g)
      exact this
    refine A_astore_n (lv' := [(1, .ref o), (0, .ref b)]) (G := gX G 43 2672 (Pic 0 (o, ad, Cc, I, A, rA G))) Γ dL_law_7 (by decide) rfl ?_
    refine L_new (z := 1) (X := (0, fun _ => 0, Cc, I, A, fun _ => True)) Γ (hKL _ _ _).1 hgA (ownQ 0 (o, ad, Cc, I, A, rA G) sx0_12) (fun H H1 h hP => hP.keptL (h _ hP.lto) (fun k hk => h _ (hP.lt hk))) (fun H q hP hq => (hP.ow hq).2) in_X1 rfl tyX1_ok dfl_ok.2 q1062 q1063 q64 (by show 43 + 1 ≤ 603072; omega) (by show 2672 + 73 ≤ 7262314; omega) dL_law_8 (fun o1 => ?_)
    refine A_dup (G := gX G 44 2745 (NP 1 (0, fun _ => 0, Cc, I, A, fun _ => True) (Pic 0 (o, ad, Cc, I, A, rA G)) (ownQ 0 (o, ad, Cc, I, A, rA G) sx0_12) (rA G) o1)) Γ dL_law_11 rfl ?_
    refine L_init (c := 44) (n := 2745) (σ' := sx0_12) (P' := fun ad1 σ H => LwP (o, ad, Cc, I, A, rA G) (o1, ad1, Cc, I, A, rA G) sx1_22 σ H) Γ (hKL _ _ _).1 hXK hXO hgA (fun Y => mtX1_init l Y) q64 q1064 q1065 q1066 (by decide +kernel) ⟨by show 2 ≤ 2048; omega, by show 41 ≤ 94400; omega⟩ ⟨by show 44 + 51 ≤ 603072; omega, by show 2745 + 2394 ≤ 7262314; omega⟩ (Nat.le_of_ble_eq_true rfl) dL_law_12 (fun H H' ad1 hP0 hAo hne hsz _ hk hP => ?_) (fun ad1 => ?_)
    · refine ⟨hP0.keptL (hk _ hP0.lto (hne _ (Or.inl rfl))) (fun k hlv => hk _ (hP0.lt hlv) (hne _ (Or.inr ⟨k, hlv, rfl⟩))), ?_, fun q hq hq1 => ?_⟩
      · have := Pic.rg (R' := rA G) hP (fun q hq => by
          rcases (hP.ow hq).1 with g | g
          · rw [g]; exact hAo
          · exact Nat.le_trans hsz g)
        exact this
      · rcases (Pic.ow hP (show ownQ 1 (o1, ad1, Cc, I, A, fun q => q = o1 ∨ H.size ≤ q) sx1_22 q from hq1)).1 with g | g
        · exact hne q hq g
        · have := (hP0.ow hq).2; omega
    refine A_astore_n (lv' := [(2, .ref o1), (1, .ref o), (0, .ref b)]) (G := gX G 95 5139 (LwP (o, ad, Cc, I, A, rA G) (o1, ad1, Cc, I, A, rA G) sx1_22)) Γ dL_law_15 (by decide) rfl ?_
    refine A_iconst (v := nI 0) (G := gX G 95 5139 (LwP (o, ad, Cc, I, A, rA G) (o1, ad1, Cc, I, A, rA G) sx1_22)) Γ dL_law_16 (by decide) ?_
    refine A_istore_n (lv' := lvi 0 (o, ad, Cc, I, A, rA G) (o1, ad1, Cc, I, A, rA G) b) (G := gX G 95 5139 (LwP (o, ad, Cc, I, A, rA G) (o1, ad1, Cc, I, A, rA G) sx1_22)) Γ dL_law_17 (by decide) rfl ?_
    exact lw_loop (X1 := (o1, ad1, Cc, I, A, rA G)) Γ hC E 65 0 (o, ad, Cc, I, A, rA G) sx0_12 sx1_22 (by omega) (by omega) ⟨(hKL _ _ _).1, (hKL _ _ _).1, hXK, (hKL _ _ _).2, hXW, rfl, rfl, rfl, rfl, hst⟩ R_0
  exact start s.heap [] ls va_S.rf trivial hl
set_option maxHeartbeats 4000000 in
theorem lw_walk (l : Launch) (hst : l.stackTraces = false) (b : Addr) (xs : List Int32) : MetFree l x (headSpec (Jvm.Cond.code x code maxLocals ret :: tables_1) room_1) (lw_P b xs) (fun _ _ _ _ _ => True) lw_Q := by
  refine MetFree.of_bodyS (code := code) (maxLocals := maxLocals) (ret := ret) (by decide) ?_ ?_
  · intro args s m h hn
    obtain ⟨meth, c, h1, h2, h3, h4, h5, h6, -, -⟩ := Cond.code_spec hn (atoms_spec (ws := Jvm.Cond.code x code maxLocals ret :: tables_1) h _ List.mem_cons_self)
    exact ⟨meth, c, h1, h2, h3, h4, h5, h6⟩
  · intro p e s m args below meth c s₁ B hml0 hP _
    obtain ⟨rfl, hx, hbd, hgv, hmr⟩ := hP
    obtain ⟨scr, harrAt, hlist, hof, hsmall⟩ := hx
    obtain ⟨hcb, hkn, -, -⟩ := State.arrayAt?_spec harrAt
    have hown : s.vm.findClass R_law = some m.cls := findClass_of_methodNamed B.named
    have hts0 : ∀ c ∈ (Jvm.Cond.code x code maxLocals ret :: tables_1), c.before #[Value.ref b] s = true := atoms_spec (ws := Jvm.Cond.code x code maxLocals ret :: tables_1) B.pre
    have hts : ∀ w ∈ lw_tbl, w.before #[Value.ref b] s = true := k2_hts_sels lw_privs (fun w hw => hts0 w (List.mem_cons_of_mem _ hw)) lw_privs_ok
    have hml : c.maxLocals = 4 := B.maxLocals_eq (hts0 _ List.mem_cons_self)
    have X₀ : Stand p l e room_1 s m #[Value.ref b] below meth c s₁ [] 0 0 := Stand.of_body B
    have hh0 : s₁.heap = s.heap := by rw [B.state]; rfl
    have hsz : scr.slots.size = xs.length := by rw [← Array.length_toList, hlist, List.length_map]
    have hval : ∀ j : Nat, j < xs.length → scr.slots[j]? = some (.int (xs.getD j 0)) := fun j hj => by
      rw [← Array.getElem?_toList, hlist]
      simp [hj]
    have hbl : b < s.heap.size := (Array.getElem?_eq_some_iff.mp hcb).1
    have hX : va_X b xs.length (fun j => xs.getD j 0) s s.heap := ⟨scr, hcb, hof, hkn, hsz, hval⟩
    have K : W p l e room_1 s m #[Value.ref b] below meth c s₁.heap [] 0 0 (lw_Z below #[Value.ref b] s) (entryFrame m ([Value.ref b] : List Value).toArray 4) := by
      rw [hh0]
      exact whole_start l hst hbd ⟨B.exec, B.bytes, B.returns, hml, hown, hts, hX, hbl, B.notSynchronized, hgv, hmr⟩
    obtain ⟨t, a1, o, b1, b2, b3⟩ := K s₁ rfl X₀
    exact ⟨t, o, a1, b1, b2, b3⟩
theorem lw_pre_spec {args : Array Value} {s : State} (h : (Jvm.Cond.and given_1 narrow_1).before args s = true) (hr : rest_1_c.before args s = true) (hmr : modulesRight_1 s = true) : ∃ (b : Addr) (xs : List Int32), lw_P b xs args s := by
  have hs := flat_of_before _ h
  have hq := flat_of_before _ hr
  have hc : (Cond.count 1).before args s = true := hs _ (by decide +kernel)
  have harr : (Cond.arrayOf (.arg 0) .int).before args s = true := hs _ (by decide +kernel)
  have hle : (Cond.le (.length (.arg 0)) (.int 448)).before args s = true := hs _ (by decide +kernel)
  have hlen : (Cond.isInt (.length (.arg 0))).before args s = true := hq _ (by decide +kernel)
  have hall : (Cond.all (.arg 0) (.isInt (.elem (.arg 0) (.index 0)))).before args s = true := hq _ (by decide +kernel)
  obtain ⟨b, xs, hb, hx⟩ := State.ints_of_pre rfl harr hlen hall
  have hsm : xs.length < 2 ^ 31 := hx.choose_spec.2.2.2
  have hev : (Term.length (.arg 0)).eval args s none [] s = some (.int xs.length.toInt32) := hx.length_eval hb
  have hv := Cond.le_ints hev (show (Term.int 448).eval args s none [] s = some (.int 448) from rfl)
  have hd : xs.length.toInt32 ≤ 448 := by
    simpa [Cond.before, Cond.holds, hv] using hle
  have hN : xs.length ≤ 448 := (Int32.ofNat_le_ofNat hsm (by decide)).mp (show Int32.ofNat xs.length ≤ Int32.ofNat 448 from hd)
  exact ⟨b, xs, Cond.one_arg hc (show args[0]? = some (.ref b) from hb), hx, hN, h, hmr⟩
theorem lw_comes (l : Launch) (hst : l.stackTraces = false) : Comes l x (Jvm.Cond.code x code maxLocals ret :: tables_1) room_1 (fun tb e args s => Calls_1 tb e args s ∧ rest_1 tb e args s ∧ Pre_1 tb e args s)
    (fun _ _ args s o t => lw_Q args s o t) := by
  intro p e ha hc hk s m args below hf hfit hheap happ hpre
  obtain ⟨b, xs, hP⟩ := lw_pre_spec hpre.2.2 hpre.2.1.1 hpre.2.1.2
  obtain ⟨k, o, h1, h2, h3, hQ⟩ := lw_walk l hst b xs p e ha hc hk s m args below hf ((Spec.applies_iff_loose hf).mp happ).1 hP trivial
  exact ⟨k, o, h1, h2, h3, hQ⟩
theorem lw_frame {s t : State} {o : Outcome} {args : Array Value} (h : Framed s o t [] 603072 7262314) :
    Framed s o t (fieldLocs frame_1_writes args s ++ arrayLocs frame_1_arrays args s ++ staticLocs frame_1_statics s) 603072 7262314 := h
theorem lw_limb (L : Cond) (hL : ∀ (args : Array Value) (s t : State), L.after args s (.returned (some (.int 1))) t = true) :
    ArmFor flags0 classFile x code maxLocals ret World_1 tables_1 room_1 Calls_1 rest_1 Pre_1
      (fun tb e a s o t => postC L tb e a s o t ∧ Framed s o t (fieldLocs frame_1_writes a s ++ arrayLocs frame_1_arrays a s ++ staticLocs frame_1_statics s) 603072 7262314) := by
  intro l hfl _ _ p e ha hc hk s m args below hf hfit hheap happ hpre
  obtain ⟨k, o, h1, h2, h3, rfl, hF⟩ := lw_comes l (by unfold Launch.stackTraces; rw [hfl]; decide +kernel) p e ha hc hk s m args below hf hfit hheap happ hpre
  exact ⟨k, _, h1, h2, h3, hL args s _, lw_frame hF⟩
theorem i_vc : Claimed_1_1 ∧ Claimed_1_2 := ⟨lw_limb limb_1_1 (fun args s t => by simp [limb_1_1, Cond.after, Cond.holds, Cond.value]), lw_limb limb_1_2 (fun args s t => Cond.after_iff.mpr (by
  first | (rw [show limb_1_2 = Cond.eq .result (.int 1) from rfl, Cond.eq_ints (x := 1) (y := 1) rfl rfl]; simp; done) | (simp [limb_1_2, Cond.value, Term.eval]; done)))⟩
