/-! the judgement At: the machine at a place of a method's code, any heap that holds the picture of the state -/
/-- p l e R s m args below meth c cells slots Q, picture, region -/
abbrev Gx : Type := Program × Launch × Env × Room × State × MethodId × Array Value × List Frame × Method × Code × Nat × Nat × (State → Prop) × (St → Heap → Prop) × (Nat → Prop)
abbrev gp (G : Gx) := G.1
abbrev gl (G : Gx) := G.2.1
abbrev ge (G : Gx) := G.2.2.1
abbrev gR (G : Gx) := G.2.2.2.1
abbrev gs (G : Gx) := G.2.2.2.2.1
abbrev gm (G : Gx) := G.2.2.2.2.2.1
abbrev gar (G : Gx) := G.2.2.2.2.2.2.1
abbrev gbe (G : Gx) := G.2.2.2.2.2.2.2.1
abbrev gme (G : Gx) := G.2.2.2.2.2.2.2.2.1
abbrev gc (G : Gx) := G.2.2.2.2.2.2.2.2.2.1
abbrev gk (G : Gx) := G.2.2.2.2.2.2.2.2.2.2.1
abbrev gn (G : Gx) := G.2.2.2.2.2.2.2.2.2.2.2.1
abbrev gQ (G : Gx) := G.2.2.2.2.2.2.2.2.2.2.2.2.1
abbrev gP (G : Gx) := G.2.2.2.2.2.2.2.2.2.2.2.2.2.1
abbrev gA (G : Gx) := G.2.2.2.2.2.2.2.2.2.2.2.2.2.2
abbrev gW (G : Gx) (H : Heap) (locs : List Loc) (g : JFrame) : Prop := W (gp G) (gl G) (ge G) (gR G) (gs G) (gm G) (gar G) (gbe G) (gme G) (gc G) H locs (gk G) (gn G) (gQ G) g
def At (G : Gx) (nL : Nat) (σ : St) (lv : List (Nat × Value)) (st : List Value) (pc : Nat) : Prop :=
  ∀ (H : Heap) (locs : List Loc) (ls : Array Slot), va_S (gA G) (gs G).heap H locs → gP G σ H → lv_has ls nL lv → gW G H locs (F0 (gm G) pc ls st)
/-- what holds all through a method: the machine, its code, the words -/
def Ok (G : Gx) (own : String) (cc : ByteArray) (nL : Nat) : Prop := CallFix (gp G) (gm G) (gc G) cc nL (gs G) (gar G) lw_all own
/-- and its world -/
def OkX (z : Nat) (G : Gx) (X : Xw) : Prop := KX X (gs G) ∧ gP G = Pic z X ∧ gA G = xR X ∧ XK (gs G)
section Rules
variable {G : Gx} {own : String} {cc : ByteArray} {nL pc : Nat} {σ : St} {lv lv' : List (Nat × Value)} {st : List Value} {z : Nat} {X : Xw}
theorem A_sub (is : List Nat) (h : lv_pick lv is = lv') (k : At G nL σ lv' st pc) : At G nL σ lv st pc := fun H locs ls hS hP hl => k H locs ls hS hP (lv_sub hl is h)
theorem A_pc {pc' : Nat} (h : pc = pc') (k : At G nL σ lv st pc') : At G nL σ lv st pc := h ▸ k
theorem A_iconst (Γ : Ok G own cc nL) {n : Int} {v : Int32} (d : decode cc pc = .ok (.iconst n, 1)) (hv : Int32.ofInt n = v) (k : At G nL σ lv (.int v :: st) (pc + 1)) : At G nL σ lv st pc := fun H locs ls hS hP hl => lv_iconst Γ.1 Γ.2.1 d hv (k H locs ls hS hP hl)
theorem A_bipush (Γ : Ok G own cc nL) {n : Int} {v : Int32} (d : decode cc pc = .ok (.bipush n, 2)) (hv : (Int8.ofInt n).toInt32 = v) (k : At G nL σ lv (.int v :: st) (pc + 2)) : At G nL σ lv st pc := fun H locs ls hS hP hl => lv_bipush Γ.1 Γ.2.1 d hv (k H locs ls hS hP hl)
theorem A_sipush (Γ : Ok G own cc nL) {n : Int} {v : Int32} (d : decode cc pc = .ok (.sipush n, 3)) (hv : (Int16.ofInt n).toInt32 = v) (k : At G nL σ lv (.int v :: st) (pc + 3)) : At G nL σ lv st pc := fun H locs ls hS hP hl => lv_sipush Γ.1 Γ.2.1 d hv (k H locs ls hS hP hl)
theorem A_lconst (Γ : Ok G own cc nL) {n : Fin 2} {v : Int64} (d : decode cc pc = .ok (.lconst n, 1)) (hv : Int64.ofNat (n : Nat) = v) (k : At G nL σ lv (.long v :: st) (pc + 1)) : At G nL σ lv st pc := fun H locs ls hS hP hl => lv_lconst Γ.1 Γ.2.1 d hv (k H locs ls hS hP hl)
theorem A_ldc (Γ : Ok G own cc nL) {i : Nat} {v : Int32} (hw : Cond.constant own i v ∈ lw_all) (d : decode cc pc = .ok (.ldc i, 2)) (k : At G nL σ lv (.int v :: st) (pc + 2)) : At G nL σ lv st pc := fun H locs ls hS hP hl => lv_ldc Γ.1 Γ.2.1 Γ.2.2.2.1 (Γ.2.2.2.2 _ hw) d (k H locs ls hS hP hl)
theorem A_ldcw (Γ : Ok G own cc nL) {i : Nat} {v : Int32} (hw : Cond.constant own i v ∈ lw_all) (d : decode cc pc = .ok (.ldc_w i, 3)) (k : At G nL σ lv (.int v :: st) (pc + 3)) : At G nL σ lv st pc := fun H locs ls hS hP hl => lv_ldcw Γ.1 Γ.2.1 Γ.2.2.2.1 (Γ.2.2.2.2 _ hw) d (k H locs ls hS hP hl)
theorem A_ldc2 (Γ : Ok G own cc nL) {i : Nat} {v : Int64} (hw : Cond.constantLong own i v ∈ lw_all) (d : decode cc pc = .ok (.ldc2_w i, 3)) (k : At G nL σ lv (.long v :: st) (pc + 3)) : At G nL σ lv st pc := fun H locs ls hS hP hl => lv_ldc2 Γ.1 Γ.2.1 Γ.2.2.2.1 (Γ.2.2.2.2 _ hw) d (k H locs ls hS hP hl)
theorem A_iload_n (Γ : Ok G own cc nL) {n : Fin 4} {x : Int32} (d : decode cc pc = .ok (.iload_n n, 1)) (j : Nat) (h : lv[j]? = some ((n : Nat), .int x)) (k : At G nL σ lv (.int x :: st) (pc + 1)) : At G nL σ lv st pc := fun H locs ls hS hP hl => lv_iload_n Γ.1 Γ.2.1 d rfl (lv_at hl j h) (k H locs ls hS hP hl)
theorem A_iload (Γ : Ok G own cc nL) {i : Nat} {x : Int32} (d : decode cc pc = .ok (.iload i, 2)) (j : Nat) (h : lv[j]? = some (i, .int x)) (k : At G nL σ lv (.int x :: st) (pc + 2)) : At G nL σ lv st pc := fun H locs ls hS hP hl => lv_iload Γ.1 Γ.2.1 d (lv_at hl j h) (k H locs ls hS hP hl)
theorem A_lload_n (Γ : Ok G own cc nL) {n : Fin 4} {x : Int64} (d : decode cc pc = .ok (.lload_n n, 1)) (j : Nat) (h : lv[j]? = some ((n : Nat), .long x)) (k : At G nL σ lv (.long x :: st) (pc + 1)) : At G nL σ lv st pc := fun H locs ls hS hP hl => lv_lload_n Γ.1 Γ.2.1 d rfl (lv_at hl j h) (k H locs ls hS hP hl)
theorem A_lload (Γ : Ok G own cc nL) {i : Nat} {x : Int64} (d : decode cc pc = .ok (.lload i, 2)) (j : Nat) (h : lv[j]? = some (i, .long x)) (k : At G nL σ lv (.long x :: st) (pc + 2)) : At G nL σ lv st pc := fun H locs ls hS hP hl => lv_lload Γ.1 Γ.2.1 d (lv_at hl j h) (k H locs ls hS hP hl)
theorem A_aload_n (Γ : Ok G own cc nL) {n : Fin 4} {x : Nat} (d : decode cc pc = .ok (.aload_n n, 1)) (j : Nat) (h : lv[j]? = some ((n : Nat), .ref x)) (k : At G nL σ lv (.ref x :: st) (pc + 1)) : At G nL σ lv st pc := fun H locs ls hS hP hl => lv_aload_n Γ.1 Γ.2.1 d rfl (lv_at hl j h) (k H locs ls hS hP hl)
theorem A_aload (Γ : Ok G own cc nL) {i : Nat} {x : Nat} (d : decode cc pc = .ok (.aload i, 2)) (j : Nat) (h : lv[j]? = some (i, .ref x)) (k : At G nL σ lv (.ref x :: st) (pc + 2)) : At G nL σ lv st pc := fun H locs ls hS hP hl => lv_aload Γ.1 Γ.2.1 d (lv_at hl j h) (k H locs ls hS hP hl)
theorem A_istore_n (Γ : Ok G own cc nL) {n : Fin 4} {x : Int32} (d : decode cc pc = .ok (.istore_n n, 1)) (hn : (n : Nat) < nL) (hf : ((n : Nat), Value.int x) :: lv.filter (fun q => !(q.1 == (n : Nat)) && !(q.1 + 1 == (n : Nat) && q.2.category == 2)) = lv') (k : At G nL σ lv' st (pc + 1)) : At G nL σ lv (.int x :: st) pc := fun H locs ls hS hP hl => lv_istore_n Γ.1 Γ.2.1 d rfl hl hn hf (fun ls hl => k H locs ls hS hP hl)
theorem A_istore (Γ : Ok G own cc nL) {i : Nat} {x : Int32} (d : decode cc pc = .ok (.istore i, 2)) (hn : i < nL) (hf : (i, Value.int x) :: lv.filter (fun q => !(q.1 == i) && !(q.1 + 1 == i && q.2.category == 2)) = lv') (k : At G nL σ lv' st (pc + 2)) : At G nL σ lv (.int x :: st) pc := fun H locs ls hS hP hl => lv_istore Γ.1 Γ.2.1 d hl hn hf (fun ls hl => k H locs ls hS hP hl)
theorem A_lstore_n (Γ : Ok G own cc nL) {n : Fin 4} {x : Int64} (d : decode cc pc = .ok (.lstore_n n, 1)) (hn : (n : Nat) + 1 < nL) (hf : ((n : Nat), Value.long x) :: lv.filter (fun q => !(q.1 == (n : Nat)) && (!(q.1 == (n : Nat) + 1) && !(q.1 + 1 == (n : Nat) && q.2.category == 2))) = lv') (k : At G nL σ lv' st (pc + 1)) : At G nL σ lv (.long x :: st) pc := fun H locs ls hS hP hl => lv_lstore_n Γ.1 Γ.2.1 d rfl hl hn hf (fun ls hl => k H locs ls hS hP hl)
theorem A_lstore (Γ : Ok G own cc nL) {i : Nat} {x : Int64} (d : decode cc pc = .ok (.lstore i, 2)) (hn : i + 1 < nL) (hf : (i, Value.long x) :: lv.filter (fun q => !(q.1 == i) && (!(q.1 == i + 1) && !(q.1 + 1 == i && q.2.category == 2))) = lv') (k : At G nL σ lv' st (pc + 2)) : At G nL σ lv (.long x :: st) pc := fun H locs ls hS hP hl => lv_lstore Γ.1 Γ.2.1 d hl hn hf (fun ls hl => k H locs ls hS hP hl)
theorem A_astore_n (Γ : Ok G own cc nL) {n : Fin 4} {x : Nat} (d : decode cc pc = .ok (.astore_n n, 1)) (hn : (n : Nat) < nL) (hf : ((n : Nat), Value.ref x) :: lv.filter (fun q => !(q.1 == (n : Nat)) && !(q.1 + 1 == (n : Nat) && q.2.category == 2)) = lv') (k : At G nL σ lv' st (pc + 1)) : At G nL σ lv (.ref x :: st) pc := fun H locs ls hS hP hl => lv_astore_n Γ.1 Γ.2.1 d rfl hl hn hf (fun ls hl => k H locs ls hS hP hl)
theorem A_astore (Γ : Ok G own cc nL) {i : Nat} {x : Nat} (d : decode cc pc = .ok (.astore i, 2)) (hn : i < nL) (hf : (i, Value.ref x) :: lv.filter (fun q => !(q.1 == i) && !(q.1 + 1 == i && q.2.category == 2)) = lv') (k : At G nL σ lv' st (pc + 2)) : At G nL σ lv (.ref x :: st) pc := fun H locs ls hS hP hl => lv_astore Γ.1 Γ.2.1 d hl hn hf (fun ls hl => k H locs ls hS hP hl)
theorem A_iinc (Γ : Ok G own cc nL) {i : Nat} {n : Int} {x v : Int32} (d : decode cc pc = .ok (.iinc i n, 3)) (j : Nat) (h : lv[j]? = some (i, .int x)) (hv : x + Int32.ofInt n = v) (hn : i < nL) (hf : (i, Value.int v) :: lv.filter (fun q => !(q.1 == i) && !(q.1 + 1 == i && q.2.category == 2)) = lv') (k : At G nL σ lv' st (pc + 3)) : At G nL σ lv st pc := fun H locs ls hS hP hl => lv_iinc Γ.1 Γ.2.1 d hl h hv hn hf (fun ls hl => k H locs ls hS hP hl)
theorem A_iadd (Γ : Ok G own cc nL) {x y : Int32} (d : decode cc pc = .ok (.iadd, 1)) (k : At G nL σ lv (.int (x + y) :: st) (pc + 1)) : At G nL σ lv (.int y :: .int x :: st) pc := fun H locs ls hS hP hl => lv_iadd Γ.1 Γ.2.1 d (k H locs ls hS hP hl)
theorem A_isub (Γ : Ok G own cc nL) {x y : Int32} (d : decode cc pc = .ok (.isub, 1)) (k : At G nL σ lv (.int (x - y) :: st) (pc + 1)) : At G nL σ lv (.int y :: .int x :: st) pc := fun H locs ls hS hP hl => lv_isub Γ.1 Γ.2.1 d (k H locs ls hS hP hl)
theorem A_imul (Γ : Ok G own cc nL) {x y : Int32} (d : decode cc pc = .ok (.imul, 1)) (k : At G nL σ lv (.int (x * y) :: st) (pc + 1)) : At G nL σ lv (.int y :: .int x :: st) pc := fun H locs ls hS hP hl => lv_imul Γ.1 Γ.2.1 d (k H locs ls hS hP hl)
theorem A_iand (Γ : Ok G own cc nL) {x y : Int32} (d : decode cc pc = .ok (.iand, 1)) (k : At G nL σ lv (.int (x &&& y) :: st) (pc + 1)) : At G nL σ lv (.int y :: .int x :: st) pc := fun H locs ls hS hP hl => lv_iand Γ.1 Γ.2.1 d (k H locs ls hS hP hl)
theorem A_ior (Γ : Ok G own cc nL) {x y : Int32} (d : decode cc pc = .ok (.ior, 1)) (k : At G nL σ lv (.int (x ||| y) :: st) (pc + 1)) : At G nL σ lv (.int y :: .int x :: st) pc := fun H locs ls hS hP hl => lv_ior Γ.1 Γ.2.1 d (k H locs ls hS hP hl)
theorem A_ixor (Γ : Ok G own cc nL) {x y : Int32} (d : decode cc pc = .ok (.ixor, 1)) (k : At G nL σ lv (.int (x ^^^ y) :: st) (pc + 1)) : At G nL σ lv (.int y :: .int x :: st) pc := fun H locs ls hS hP hl => lv_ixor Γ.1 Γ.2.1 d (k H locs ls hS hP hl)
theorem A_ishl (Γ : Ok G own cc nL) {x y : Int32} (d : decode cc pc = .ok (.ishl, 1)) (k : At G nL σ lv (.int (x <<< (y &&& 31)) :: st) (pc + 1)) : At G nL σ lv (.int y :: .int x :: st) pc := fun H locs ls hS hP hl => lv_ishl Γ.1 Γ.2.1 d (k H locs ls hS hP hl)
theorem A_ishr (Γ : Ok G own cc nL) {x y : Int32} (d : decode cc pc = .ok (.ishr, 1)) (k : At G nL σ lv (.int (x >>> (y &&& 31)) :: st) (pc + 1)) : At G nL σ lv (.int y :: .int x :: st) pc := fun H locs ls hS hP hl => lv_ishr Γ.1 Γ.2.1 d (k H locs ls hS hP hl)
theorem A_idiv (Γ : Ok G own cc nL) {x y : Int32} (d : decode cc pc = .ok (.idiv, 1)) (hn : ¬ y = 0) (k : At G nL σ lv (.int (x / y) :: st) (pc + 1)) : At G nL σ lv (.int y :: .int x :: st) pc := fun H locs ls hS hP hl => lv_idiv Γ.1 Γ.2.1 d hn (k H locs ls hS hP hl)
theorem A_irem (Γ : Ok G own cc nL) {x y : Int32} (d : decode cc pc = .ok (.irem, 1)) (hn : ¬ y = 0) (k : At G nL σ lv (.int (x - x / y * y) :: st) (pc + 1)) : At G nL σ lv (.int y :: .int x :: st) pc := fun H locs ls hS hP hl => lv_irem Γ.1 Γ.2.1 d hn (k H locs ls hS hP hl)
theorem A_ladd (Γ : Ok G own cc nL) {x y : Int64} (d : decode cc pc = .ok (.ladd, 1)) (k : At G nL σ lv (.long (x + y) :: st) (pc + 1)) : At G nL σ lv (.long y :: .long x :: st) pc := fun H locs ls hS hP hl => lv_ladd Γ.1 Γ.2.1 d (k H locs ls hS hP hl)
theorem A_lsub (Γ : Ok G own cc nL) {x y : Int64} (d : decode cc pc = .ok (.lsub, 1)) (k : At G nL σ lv (.long (x - y) :: st) (pc + 1)) : At G nL σ lv (.long y :: .long x :: st) pc := fun H locs ls hS hP hl => lv_lsub Γ.1 Γ.2.1 d (k H locs ls hS hP hl)
theorem A_lmul (Γ : Ok G own cc nL) {x y : Int64} (d : decode cc pc = .ok (.lmul, 1)) (k : At G nL σ lv (.long (x * y) :: st) (pc + 1)) : At G nL σ lv (.long y :: .long x :: st) pc := fun H locs ls hS hP hl => lv_lmul Γ.1 Γ.2.1 d (k H locs ls hS hP hl)
theorem A_ldiv (Γ : Ok G own cc nL) {x y : Int64} (d : decode cc pc = .ok (.ldiv, 1)) (hn : ¬ y = 0) (k : At G nL σ lv (.long (x / y) :: st) (pc + 1)) : At G nL σ lv (.long y :: .long x :: st) pc := fun H locs ls hS hP hl => lv_ldiv Γ.1 Γ.2.1 d hn (k H locs ls hS hP hl)
theorem A_lrem (Γ : Ok G own cc nL) {x y : Int64} (d : decode cc pc = .ok (.lrem, 1)) (hn : ¬ y = 0) (k : At G nL σ lv (.long (x - x / y * y) :: st) (pc + 1)) : At G nL σ lv (.long y :: .long x :: st) pc := fun H locs ls hS hP hl => lv_lrem Γ.1 Γ.2.1 d hn (k H locs ls hS hP hl)
theorem A_lneg (Γ : Ok G own cc nL) {x : Int64} (d : decode cc pc = .ok (.lneg, 1)) (k : At G nL σ lv (.long (-x) :: st) (pc + 1)) : At G nL σ lv (.long x :: st) pc := fun H locs ls hS hP hl => lv_lneg Γ.1 Γ.2.1 d (k H locs ls hS hP hl)
theorem A_lcmp (Γ : Ok G own cc nL) {x y : Int64} (d : decode cc pc = .ok (.lcmp, 1)) (k : At G nL σ lv (.int (lg_cmp x y) :: st) (pc + 1)) : At G nL σ lv (.long y :: .long x :: st) pc := fun H locs ls hS hP hl => W.lcmp Γ.1 Γ.2.1 d (k H locs ls hS hP hl)
theorem A_i2l (Γ : Ok G own cc nL) {x : Int32} (d : decode cc pc = .ok (.i2l, 1)) (k : At G nL σ lv (.long x.toInt64 :: st) (pc + 1)) : At G nL σ lv (.int x :: st) pc := fun H locs ls hS hP hl => lv_i2l Γ.1 Γ.2.1 d rfl (k H locs ls hS hP hl)
theorem A_l2i (Γ : Ok G own cc nL) {x : Int64} (d : decode cc pc = .ok (.l2i, 1)) (k : At G nL σ lv (.int x.toInt32 :: st) (pc + 1)) : At G nL σ lv (.long x :: st) pc := fun H locs ls hS hP hl => lv_l2i Γ.1 Γ.2.1 d rfl (k H locs ls hS hP hl)
theorem A_i2b (Γ : Ok G own cc nL) {x : Int32} (d : decode cc pc = .ok (.i2b, 1)) (k : At G nL σ lv (.int x.toInt8.toInt32 :: st) (pc + 1)) : At G nL σ lv (.int x :: st) pc := fun H locs ls hS hP hl => lv_i2b Γ.1 Γ.2.1 d rfl (k H locs ls hS hP hl)
theorem A_dup (Γ : Ok G own cc nL) {v : Value} (d : decode cc pc = .ok (.dup, 1)) (hc : v.category = 1) (k : At G nL σ lv (v :: v :: st) (pc + 1)) : At G nL σ lv (v :: st) pc := fun H locs ls hS hP hl => lv_dup Γ.1 Γ.2.1 d hc (k H locs ls hS hP hl)
theorem A_pop (Γ : Ok G own cc nL) {v : Value} (d : decode cc pc = .ok (.pop, 1)) (hc : v.category = 1) (k : At G nL σ lv st (pc + 1)) : At G nL σ lv (v :: st) pc := fun H locs ls hS hP hl => lv_pop Γ.1 Γ.2.1 d hc (k H locs ls hS hP hl)
theorem A_dup2 (Γ : Ok G own cc nL) {v w : Value} (d : decode cc pc = .ok (.dup2, 1)) (hv : v.category = 1) (hw : w.category = 1) (k : At G nL σ lv (v :: w :: v :: w :: st) (pc + 1)) : At G nL σ lv (v :: w :: st) pc := fun H locs ls hS hP hl => lv_dup2_11 Γ.1 Γ.2.1 d hv hw (k H locs ls hS hP hl)
theorem A_icmp_eq (Γ : Ok G own cc nL) {x y : Int32} {off : Int} {t : Nat} (d : decode cc pc = .ok (.if_icmp .eq off, 3)) (ht : (pc : Int) + off = (t : Int)) (kt : x = y → At G nL σ lv st t) (kf : ¬ x = y → At G nL σ lv st (pc + 3)) : At G nL σ lv (.int y :: .int x :: st) pc := fun H locs ls hS hP hl => lv_icmp_eq Γ.1 Γ.2.1 d ht (fun c => kt c H locs ls hS hP hl) (fun c => kf c H locs ls hS hP hl)
theorem A_if_eq (Γ : Ok G own cc nL) {x : Int32} {off : Int} {t : Nat} (d : decode cc pc = .ok (.ifCond .eq off, 3)) (ht : (pc : Int) + off = (t : Int)) (kt : x = 0 → At G nL σ lv st t) (kf : ¬ x = 0 → At G nL σ lv st (pc + 3)) : At G nL σ lv (.int x :: st) pc := fun H locs ls hS hP hl => lv_if_eq Γ.1 Γ.2.1 d ht (fun c => kt c H locs ls hS hP hl) (fun c => kf c H locs ls hS hP hl)
theorem A_icmp_ne (Γ : Ok G own cc nL) {x y : Int32} {off : Int} {t : Nat} (d : decode cc pc = .ok (.if_icmp .ne off, 3)) (ht : (pc : Int) + off = (t : Int)) (kt : ¬ x = y → At G nL σ lv st t) (kf : x = y → At G nL σ lv st (pc + 3)) : At G nL σ lv (.int y :: .int x :: st) pc := fun H locs ls hS hP hl => lv_icmp_ne Γ.1 Γ.2.1 d ht (fun c => kt c H locs ls hS hP hl) (fun c => kf c H locs ls hS hP hl)
theorem A_if_ne (Γ : Ok G own cc nL) {x : Int32} {off : Int} {t : Nat} (d : decode cc pc = .ok (.ifCond .ne off, 3)) (ht : (pc : Int) + off = (t : Int)) (kt : ¬ x = 0 → At G nL σ lv st t) (kf : x = 0 → At G nL σ lv st (pc + 3)) : At G nL σ lv (.int x :: st) pc := fun H locs ls hS hP hl => lv_if_ne Γ.1 Γ.2.1 d ht (fun c => kt c H locs ls hS hP hl) (fun c => kf c H locs ls hS hP hl)
theorem A_icmp_lt (Γ : Ok G own cc nL) {x y : Int32} {off : Int} {t : Nat} (d : decode cc pc = .ok (.if_icmp .lt off, 3)) (ht : (pc : Int) + off = (t : Int)) (kt : x < y → At G nL σ lv st t) (kf : ¬ x < y → At G nL σ lv st (pc + 3)) : At G nL σ lv (.int y :: .int x :: st) pc := fun H locs ls hS hP hl => lv_icmp_lt Γ.1 Γ.2.1 d ht (fun c => kt c H locs ls hS hP hl) (fun c => kf c H locs ls hS hP hl)
theorem A_if_lt (Γ : Ok G own cc nL) {x : Int32} {off : Int} {t : Nat} (d : decode cc pc = .ok (.ifCond .lt off, 3)) (ht : (pc : Int) + off = (t : Int)) (kt : x < 0 → At G nL σ lv st t) (kf : ¬ x < 0 → At G nL σ lv st (pc + 3)) : At G nL σ lv (.int x :: st) pc := fun H locs ls hS hP hl => lv_if_lt Γ.1 Γ.2.1 d ht (fun c => kt c H locs ls hS hP hl) (fun c => kf c H locs ls hS hP hl)
theorem A_icmp_ge (Γ : Ok G own cc nL) {x y : Int32} {off : Int} {t : Nat} (d : decode cc pc = .ok (.if_icmp .ge off, 3)) (ht : (pc : Int) + off = (t : Int)) (kt : y ≤ x → At G nL σ lv st t) (kf : ¬ y ≤ x → At G nL σ lv st (pc + 3)) : At G nL σ lv (.int y :: .int x :: st) pc := fun H locs ls hS hP hl => lv_icmp_ge Γ.1 Γ.2.1 d ht (fun c => kt c H locs ls hS hP hl) (fun c => kf c H locs ls hS hP hl)
theorem A_if_ge (Γ : Ok G own cc nL) {x : Int32} {off : Int} {t : Nat} (d : decode cc pc = .ok (.ifCond .ge off, 3)) (ht : (pc : Int) + off = (t : Int)) (kt : 0 ≤ x → At G nL σ lv st t) (kf : ¬ 0 ≤ x → At G nL σ lv st (pc + 3)) : At G nL σ lv (.int x :: st) pc := fun H locs ls hS hP hl => lv_if_ge Γ.1 Γ.2.1 d ht (fun c => kt c H locs ls hS hP hl) (fun c => kf c H locs ls hS hP hl)
theorem A_icmp_gt (Γ : Ok G own cc nL) {x y : Int32} {off : Int} {t : Nat} (d : decode cc pc = .ok (.if_icmp .gt off, 3)) (ht : (pc : Int) + off = (t : Int)) (kt : y < x → At G nL σ lv st t) (kf : ¬ y < x → At G nL σ lv st (pc + 3)) : At G nL σ lv (.int y :: .int x :: st) pc := fun H locs ls hS hP hl => lv_icmp_gt Γ.1 Γ.2.1 d ht (fun c => kt c H locs ls hS hP hl) (fun c => kf c H locs ls hS hP hl)
theorem A_if_gt (Γ : Ok G own cc nL) {x : Int32} {off : Int} {t : Nat} (d : decode cc pc = .ok (.ifCond .gt off, 3)) (ht : (pc : Int) + off = (t : Int)) (kt : 0 < x → At G nL σ lv st t) (kf : ¬ 0 < x → At G nL σ lv st (pc + 3)) : At G nL σ lv (.int x :: st) pc := fun H locs ls hS hP hl => lv_if_gt Γ.1 Γ.2.1 d ht (fun c => kt c H locs ls hS hP hl) (fun c => kf c H locs ls hS hP hl)
theorem A_icmp_le (Γ : Ok G own cc nL) {x y : Int32} {off : Int} {t : Nat} (d : decode cc pc = .ok (.if_icmp .le off, 3)) (ht : (pc : Int) + off = (t : Int)) (kt : x ≤ y → At G nL σ lv st t) (kf : ¬ x ≤ y → At G nL σ lv st (pc + 3)) : At G nL σ lv (.int y :: .int x :: st) pc := fun H locs ls hS hP hl => lv_icmp_le Γ.1 Γ.2.1 d ht (fun c => kt c H locs ls hS hP hl) (fun c => kf c H locs ls hS hP hl)
theorem A_if_le (Γ : Ok G own cc nL) {x : Int32} {off : Int} {t : Nat} (d : decode cc pc = .ok (.ifCond .le off, 3)) (ht : (pc : Int) + off = (t : Int)) (kt : x ≤ 0 → At G nL σ lv st t) (kf : ¬ x ≤ 0 → At G nL σ lv st (pc + 3)) : At G nL σ lv (.int x :: st) pc := fun H locs ls hS hP hl => lv_if_le Γ.1 Γ.2.1 d ht (fun c => kt c H locs ls hS hP hl) (fun c => kf c H locs ls hS hP hl)
theorem A_goto (Γ : Ok G own cc nL) {off : Int} {t : Nat} (d : decode cc pc = .ok (.goto off, 3)) (ht : (pc : Int) + off = (t : Int)) (k : At G nL σ lv st t) : At G nL σ lv st pc := fun H locs ls hS hP hl => lv_goto Γ.1 Γ.2.1 d ht (k H locs ls hS hP hl)
theorem A_tableIn (Γ : Ok G own cc nL) {dflt lo hi : Int} {offs : Array Int} {len : Nat} {x : Int32} {off : Int} {t : Nat} (d : decode cc pc = .ok (.tableswitch dflt lo hi offs, len)) (h1 : ¬ x.toInt < lo) (h2 : ¬ hi < x.toInt) (ho : offs[(x.toInt - lo).toNat]? = some off) (ht : (pc : Int) + off = (t : Int)) (k : At G nL σ lv st t) : At G nL σ lv (.int x :: st) pc := fun H locs ls hS hP hl => lv_tableIn Γ.1 Γ.2.1 d h1 h2 ho ht (k H locs ls hS hP hl)
theorem A_tableOut (Γ : Ok G own cc nL) {dflt lo hi : Int} {offs : Array Int} {len : Nat} {x : Int32} {t : Nat} (d : decode cc pc = .ok (.tableswitch dflt lo hi offs, len)) (h : x.toInt < lo ∨ hi < x.toInt) (ht : (pc : Int) + dflt = (t : Int)) (k : At G nL σ lv st t) : At G nL σ lv (.int x :: st) pc := fun H locs ls hS hP hl => lv_tableOut Γ.1 Γ.2.1 d h ht (k H locs ls hS hP hl)
/-- a table from 0 on: none of its cases -/
theorem tb_out {x : Int32} {n : Nat} (hn : n < 1000) (h : ∀ j : Nat, j < n → ¬ x = nI j) : x.toInt < 0 ∨ ((n : Int) - 1) < x.toInt := by
  rcases Nat.lt_or_ge 0 1 with _ | q
  · by_cases h0 : x.toInt < 0
    · exact Or.inl h0
    · by_cases h1 : (n : Int) - 1 < x.toInt
      · exact Or.inr h1
      · have h2 := h x.toInt.toNat (by omega)
        refine absurd ?_ h2
        apply Int32.toInt_inj.mp
        rw [nI_toInt (by omega)]
        omega
  · omega
/-- a field of the object -/
theorem A_get (Γ : Ok G own cc nL) (Ξ : OkX z G X) (hin : ∀ w ∈ u_ws (RZ z) (TZ z) (NZ z), w ∈ lw_all) (hc : vwCl[z]? = some (RZ z, TZ z, NZ z)) {index k : Nat} {v : Value} (hk : k < NZ z) (hlink : Cond.fieldLink own index (RZ z) (TZ z k).2.1 (TZ z k).2.2.1 ∈ lw_all) (h1 : (TZ z k).1 = RZ z) (hv : fv z X σ k = v) (d : decode cc pc = .ok (.getfield index, 3)) (kk : At G nL σ lv (v :: st) (pc + 3)) : At G nL σ lv (.ref (xo X) :: st) pc := by
  intro H locs ls hS hP hl
  have hP0 := hP
  rw [Ξ.2.1] at hP
  obtain ⟨⟨cell, q1, q2, q3, q4⟩, -⟩ := hP
  obtain ⟨hSl, hfc, kC, hkC, hkind⟩ := Ξ.1.1 z _ hc
  obtain ⟨cf, kf, fi, f, hi, hsl⟩ := hSl k hk
  refine W.getf Γ.1 Γ.2.1 Γ.2.2.2.1 (Γ.2.2.2.2 _ hlink) (by rw [← h1]; exact hi) (u_facts hfc hkC (u_lays Γ.2.2.2.2 hin hk) hi).1 q1 (by rw [q3]; exact fun h => by cases h) (v := v) ?_ rfl rfl d (kk H locs ls hS hP0 hl)
  rw [hsl, q4 k hk, hv]
theorem A_put (Γ : Ok G own cc nL) (Ξ : OkX z G X) (hin : ∀ w ∈ u_ws (RZ z) (TZ z) (NZ z), w ∈ lw_all) (hc : vwCl[z]? = some (RZ z, TZ z, NZ z)) (hty : ∀ k, k < NZ z → parseFieldDescriptor (TZ z k).2.2.1 = some (tyZ z k)) (hnm : ∀ a, a < NZ z → ∀ b, b < NZ z → a ≠ b → (TZ z a).2.1 ≠ (TZ z b).2.1) {index k : Nat} {v : Value} {σ1 : St} (hk : k < NZ z) (hlink : Cond.fieldLink own index (RZ z) (TZ z k).2.1 (TZ z k).2.2.1 ∈ lw_all) (h1 : (TZ z k).1 = RZ z) (hfin : (TZ z k).2.2.2 = false) (hn : narrow (tyZ z k) v = v) (hfit : fits (tyZ z k) v = true) (hv : fv z X σ1 k = v) (ho : ∀ j, j ≠ k → fv z X σ1 j = fv z X σ j) (h2 : ∀ j, cellZ z X σ1 j = cellZ z X σ j) (hL : ∀ q, cL σ1 q = cL σ q) (h3 : ∀ q, cA σ1 q = cA σ q) (d : decode cc pc = .ok (.putfield index, 3)) (kk : At G nL σ1 lv st (pc + 3)) : At G nL σ lv (v :: .ref (xo X) :: st) pc := by
  intro H locs ls hS hP hl
  rw [Ξ.2.1] at hP
  have hPP := hP
  obtain ⟨⟨cell, q1, q2, q3, q4⟩, -, -, -, -, hR⟩ := hP
  have hap := va_apart (own := own) (D := (xC X, xI X)) Γ.2.2.2.2 hin (tyZ z) hty hnm Ξ.1 hc
  obtain ⟨hSl, hfc, kC, hkC, hkind⟩ := Ξ.1.1 z _ hc
  obtain ⟨cf, kf, fi, f, hi, hsl⟩ := hSl k hk
  have hlay := Γ.2.2.2.2 _ (hin _ (u_in_lay hk))
  unfold u_lay at hlay
  rw [if_neg (by rw [hfin]; decide)] at hlay
  have hst := (u_facts hfc hkC (u_lays Γ.2.2.2.2 hin hk) hi).1
  have h6 := u_store hfc hkC hkind hlay hi (hty k hk) hn hfit
  refine W.putK Γ.1 Γ.2.1 (f := f) ⟨Γ.2.2.2.1, Γ.2.2.2.2 _ hlink, ⟨_, _, _, by rw [← h1]; exact hi⟩, hst⟩ (by rw [q2]; exact h6) q1 q3 (by rw [hsl]; exact k2_hasslot (q4 k hk)) rfl rfl d fun H' e1 e2 e3 => ?_
  rw [hsl] at e1 ⊢
  refine kk H' _ ls (hS.put e2 e3 (by rw [Ξ.2.2.1]; exact hR)) ?_ hl
  rw [Ξ.2.1]
  refine hPP.upO (t_OB.to (V := updV (fv z X σ) k v) ⟨_, e1, q2, q3, t_set q4 hap hk v⟩ (fun j _ => ?_)) e3 h2 hL h3
  unfold updV
  split
  · rename_i h; rw [h, hv]
  · rename_i h; rw [ho j h]
theorem A_ald (Γ : Ok G own cc nL) (Ξ : OkX z G X) {k n : Nat} {i v : Int32} (hk : k < NZ z) (hty : tyZ z k = .array .int) (hn : lenZ z k = n) (hv : rdA n σ k i = some v) (d : decode cc pc = .ok (.iaload, 1)) (kk : At G nL σ lv (.int v :: st) (pc + 1)) : At G nL σ lv (.int i :: .ref (xad X k) :: st) pc := by
  intro H locs ls hS hP hl
  obtain ⟨h1, rfl⟩ := rdA_in hv
  have hP0 := hP
  rw [Ξ.2.1] at hP
  have hc := hP.2.1 k hk (by rw [hty]; rfl)
  have hcz : cellZ z X σ k = arrV (xA X 0) (lenZ z k) (fun j => .int (cA σ k j)) := by unfold cellZ; rw [hty]
  rw [hcz, hn] at hc
  have hP1 : va_P (xC X, xI X) vwCl [(xad X k, .inl (xA X 0, n, .inl (cA σ k)))] H := by
    intro j q hj
    match j, hj with
    | 0, hj => cases hj; exact hc
    | j + 1, hj => simp at hj
  exact va_iald (tys := tysX X) Γ.1 Γ.2.1 Ξ.1 hP1 0 0 rfl rfl h1 d (kk H locs ls hS hP0 hl)
theorem A_zald (Γ : Ok G own cc nL) (Ξ : OkX z G X) {k n : Nat} {i v : Int32} (hk : k < NZ z) (hty : tyZ z k = .array .boolean) (hn : lenZ z k = n) (hv : rdA n σ k i = some v) (d : decode cc pc = .ok (.baload, 1)) (kk : At G nL σ lv (.int v :: st) (pc + 1)) : At G nL σ lv (.int i :: .ref (xad X k) :: st) pc := by
  intro H locs ls hS hP hl
  obtain ⟨h1, rfl⟩ := rdA_in hv
  have hP0 := hP
  rw [Ξ.2.1] at hP
  have hc := hP.2.1 k hk (by rw [hty]; rfl)
  have hcz : cellZ z X σ k = arrV (xA X 1) (lenZ z k) (fun j => .int (cA σ k j)) := by unfold cellZ; rw [hty]
  rw [hcz, hn] at hc
  have hP1 : va_P (xC X, xI X) vwCl [(xad X k, .inl (xA X 1, n, .inl (cA σ k)))] H := by
    intro j q hj
    match j, hj with
    | 0, hj => cases hj; exact hc
    | j + 1, hj => simp at hj
  exact va_zald (tys := tysX X) Γ.1 Γ.2.1 Ξ.1 hP1 0 1 rfl rfl h1 d (kk H locs ls hS hP0 hl)
theorem A_lald (Γ : Ok G own cc nL) (Ξ : OkX z G X) {k n : Nat} {i : Int32} {v : Int64} (hk : k < NZ z) (hty : tyZ z k = .array .long) (hn : lenZ z k = n) (hv : rdB n σ k i = some v) (d : decode cc pc = .ok (.laload, 1)) (kk : At G nL σ lv (.long v :: st) (pc + 1)) : At G nL σ lv (.int i :: .ref (xad X k) :: st) pc := by
  intro H locs ls hS hP hl
  obtain ⟨h1, rfl⟩ := rdB_in hv
  have hP0 := hP
  rw [Ξ.2.1] at hP
  have hc := hP.2.1 k hk (by rw [hty]; rfl)
  have hcz : cellZ z X σ k = arrV (xA X 3) (lenZ z k) (fun j => .long (cB σ k j)) := by unfold cellZ; rw [hty]
  rw [hcz, hn] at hc
  have hP1 : va_P (xC X, xI X) vwCl [(xad X k, .inl (xA X 3, n, .inr (.inl (cB σ k))))] H := by
    intro j q hj
    match j, hj with
    | 0, hj => cases hj; exact hc
    | j + 1, hj => simp at hj
  exact va_lald (tys := tysX X) Γ.1 Γ.2.1 Ξ.1 hP1 0 3 rfl rfl h1 d (kk H locs ls hS hP0 hl)
theorem A_ast (Γ : Ok G own cc nL) (Ξ : OkX z G X) {k n : Nat} {i x : Int32} {σ1 : St} (hk : k < NZ z) (hz : z = 0 → k < 62) (hty : tyZ z k = .array .int) (hn : lenZ z k = n) (hv : wrA n σ k i x = some σ1) (d : decode cc pc = .ok (.iastore, 1)) (kk : At G nL σ1 lv st (pc + 1)) : At G nL σ lv (.int x :: .int i :: .ref (xad X k) :: st) pc := by
  intro H locs ls hS hP hl
  obtain ⟨h1, rfl⟩ := wrA_in hv
  rw [Ξ.2.1] at hP
  have ha : isA (tyZ z k) = true := by rw [hty]; rfl
  have hc := hP.2.1 k hk ha
  have hcz : ∀ σ : St, cellZ z X σ k = arrV (xA X 0) (lenZ z k) (fun j => .int (cA σ k j)) := fun σ => by unfold cellZ; rw [hty]
  refine W.iast Γ.1 Γ.2.1 hc (by rw [hcz]; exact (Ξ.1.2 0 _ rfl).1 _ _) (by rw [hcz]; exact fun q => by cases q) (by rw [hcz, arrV_size, hn]; exact h1) rfl rfl d fun H1 e zz oq => ?_
  refine kk H1 _ ls (hS.put zz oq (by rw [Ξ.2.2.1]; exact (hP.2.2.2.2.1 k (Or.inl ⟨hk, ha⟩)).1)) ?_ hl
  rw [Ξ.2.1]
  exact hP.setA hk hz hcz ha e oq
theorem narrow_z (x : Int32) : narrow .boolean (.int x) = .int (vp_nar .boolean x) := rfl
theorem A_zast (Γ : Ok G own cc nL) (Ξ : OkX z G X) {k n : Nat} {i x : Int32} {σ1 : St} (hk : k < NZ z) (hz : z = 0 → k < 62) (hty : tyZ z k = .array .boolean) (hn : lenZ z k = n) (hv : wrA n σ k i (vp_nar .boolean x) = some σ1) (d : decode cc pc = .ok (.bastore, 1)) (kk : At G nL σ1 lv st (pc + 1)) : At G nL σ lv (.int x :: .int i :: .ref (xad X k) :: st) pc := by
  intro H locs ls hS hP hl
  obtain ⟨h1, rfl⟩ := wrA_in hv
  rw [Ξ.2.1] at hP
  have ha : isA (tyZ z k) = true := by rw [hty]; rfl
  have hc := hP.2.1 k hk ha
  have hcz : ∀ σ : St, cellZ z X σ k = arrV (xA X 1) (lenZ z k) (fun j => .int (cA σ k j)) := fun σ => by unfold cellZ; rw [hty]
  refine W.zast Γ.1 Γ.2.1 hc (by rw [hcz]; exact (Ξ.1.2 1 _ rfl).1 _ _) (by rw [hcz]; exact fun q => by cases q) (by rw [hcz, arrV_size, hn]; exact h1) rfl rfl d fun H1 e zz oq => ?_
  refine kk H1 _ ls (hS.put zz oq (by rw [Ξ.2.2.1]; exact (hP.2.2.2.2.1 k (Or.inl ⟨hk, ha⟩)).1)) ?_ hl
  rw [Ξ.2.1]
  rw [narrow_z] at e
  exact hP.setA hk hz hcz ha e oq
theorem A_last (Γ : Ok G own cc nL) (Ξ : OkX z G X) {k n : Nat} {i : Int32} {x : Int64} {σ1 : St} (hk : k < NZ z) (hty : tyZ z k = .array .long) (hn : lenZ z k = n) (hv : wrB n σ k i x = some σ1) (d : decode cc pc = .ok (.lastore, 1)) (kk : At G nL σ1 lv st (pc + 1)) : At G nL σ lv (.long x :: .int i :: .ref (xad X k) :: st) pc := by
  intro H locs ls hS hP hl
  obtain ⟨h1, rfl⟩ := wrB_in hv
  rw [Ξ.2.1] at hP
  have ha : isA (tyZ z k) = true := by rw [hty]; rfl
  have hc := hP.2.1 k hk ha
  have hcz : ∀ σ : St, cellZ z X σ k = arrV (xA X 3) (lenZ z k) (fun j => .long (cB σ k j)) := fun σ => by unfold cellZ; rw [hty]
  refine W.last Γ.1 Γ.2.1 hc (by rw [hcz]; exact (Ξ.1.2 3 _ rfl).1 _ _) (by rw [hcz]; exact fun q => by cases q) (by rw [hcz, arrV_size, hn]; exact h1) rfl rfl d fun H1 e zz oq => ?_
  refine kk H1 _ ls (hS.put zz oq (by rw [Ξ.2.2.1]; exact (hP.2.2.2.2.1 k (Or.inl ⟨hk, ha⟩)).1)) ?_ hl
  rw [Ξ.2.1]
  exact hP.setB hk hcz ha e oq
end Rules
theorem fv_sI {z : Nat} {X : Xw} {σ : St} {k j : Nat} {v : Int32} (h : j ≠ k) : fv z X (sI σ k v) j = fv z X σ j := by
  have e1 : cI (sI σ k v) j = cI σ j := by rw [cI_sI, if_neg h]
  unfold fv
  rw [e1]
  rfl
theorem fv_sJ {z : Nat} {X : Xw} {σ : St} {k j : Nat} {v : Int64} (h : j ≠ k) : fv z X (sJ σ k v) j = fv z X σ j := by
  have e1 : cJ (sJ σ k v) j = cJ σ j := by rw [cJ_sJ, if_neg h]
  unfold fv
  rw [e1]
  rfl
/-! contracts -/
abbrev rmF (f lo : Nat) : Room := { frames := f, cells := 0, slots := 0, locals := lo }
def Rm (G : Gx) (f lo : Nat) : Prop := f ≤ (gR G).frames ∧ lo ≤ (gR G).locals ∧ gk G ≤ (gR G).cells ∧ gn G ≤ (gR G).slots
theorem rm_ok {G : Gx} {F LO f lo n : Nat} (h : Rm G F LO) (h1 : f + 1 ≤ F) (h2 : 8 + (n + 11) + lo ≤ LO) : f + 1 ≤ (gR G).frames ∧ 8 + (n + 11) + lo ≤ (gR G).locals := ⟨Nat.le_trans h1 h.1, Nat.le_trans h2 h.2.1⟩
theorem rm_k {G : Gx} {F LO : Nat} (h : Rm G F LO) : gk G ≤ (gR G).cells ∧ gn G ≤ (gR G).slots := h.2.2
/-- a method of the object's class (or one that sees its world): from σ to σ', answer rv -/
def MetZ (z : Nat) (l : Launch) (X : Xw) (y : MethodName) (cc : ByteArray) (nL : Nat) (ret : Option FieldType) (f lo : Nat) (av : List Value) (σ : St) (rv : Option Value) (σ' : St) : Prop :=
  Met l y (ws_ y cc nL ret) (rmF f lo) (va_Pc av (fun U => Pic z X σ U.heap ∧ KX X U ∧ XK U)) (fun _ st oc t => oc = .returned rv ∧ Pic z X σ' t.heap ∧ va_F (xR X) st t) 0 0 (xR X)
/-- a static method of numbers -/
def MetS (l : Launch) (y : MethodName) (cc : ByteArray) (nL : Nat) (ret : Option FieldType) (f lo : Nat) (av : List Value) (rv : Option Value) : Prop :=
  Met l y (ws_ y cc nL ret) (rmF f lo) (va_Pc av (fun _ => True)) (fun _ st oc t => oc = .returned rv ∧ va_F (fun _ => False) st t) 0 0 (fun _ => False)
/-- how a return instruction is read -/
def retIs (cc : ByteArray) (ret : Option FieldType) (rv : Option Value) (pc : Nat) : Prop := match ret, rv with
  | some .int, some (.int _) => decode cc pc = .ok (.ireturn, 1)
  | some .boolean, some (.int x) => decode cc pc = .ok (.ireturn, 1) ∧ (x = 0 ∨ x = 1)
  | some .long, some (.long _) => decode cc pc = .ok (.lreturn, 1)
  | none, none => decode cc pc = .ok (.return_, 1)
  | _, _ => False
theorem ret_W {p : Program} {l : Launch} {e : Env} {R : Room} {s : State} {m : MethodId} {args : Array Value} {below : List Frame} {meth : Method} {c : Code} {H : Heap} {locs : List Loc} {cells slots : Nat} {cc : ByteArray} {Qc : Array Value → State → Outcome → State → Prop} {free : Addr → Prop} {ret : Option FieldType} {rv : Option Value} {pc : Nat} {ls : Array Slot} (hx : p.tables.exec = Jvm.exec) (hb : c.code = cc) (hr : meth.sig.returnType = ret) (hlocks : meth.locks = false) (hq : ∀ t : State, t.heap = H → s.WarmedH t.vm → Qc args s (.returned rv) t) (hf : ∀ q ∈ locs, free q.base) (hd : retIs cc ret rv pc) : W p l e R s m args below meth c H locs cells slots (MQ below Qc args s cells slots free) (F0 m pc ls rv.toList) := by
  unfold retIs at hd
  split at hd
  · exact W.iret hx hb hr hq hf hd
  · obtain ⟨hd, rfl | rfl⟩ := hd
    · exact W.zret hx hb hr rfl hq hf hd
    · exact W.zret hx hb hr rfl hq hf hd
  · exact W.lret hx hb hr hq hf hd
  · exact W.vret hx hb hr hq hf hd
  · exact hd.elim
theorem Met.ofWF {l : Launch} {y : MethodName} {ws ws' : List Cond} {rm : Room} {Pc : Array Value → State → Prop} {Qc : Array Value → State → Outcome → State → Prop} {mc ms : Nat} {free : Addr → Prop} {cc : ByteArray} {maxL : Nat} {ret : Option FieldType}
    (hy : plainFor y = true) (hw : ws = Cond.code y cc maxL ret :: ws')
    (body : ∀ p e s m args below meth c s₁, BodyLoose p l y (headSpec ws rm) cc maxL ret e s m args below meth c s₁ → c.maxLocals = maxL → Pc args s →
      W p l e (headSpec ws rm).room s m args below meth c s.heap [] 0 0 (MQ below Qc args s mc ms free) (entryFrame m args maxL)) : Met l y ws rm Pc Qc mc ms free := by
  refine MetFree.of_bodySF (code := cc) (maxLocals := maxL) (ret := ret) hy ?_ ?_
  · intro args s m h hn
    obtain ⟨meth, c, h1, h2, h3, h4, h5, h6, -, -⟩ := Cond.code_spec hn (atoms_spec (ws := ws) h _ (by rw [hw]; exact List.mem_cons_self))
    exact ⟨meth, c, h1, h2, h3, h4, h5, h6⟩
  · intro p e s m args below meth c s₁ B hml hP _
    have hh0 : s₁.heap = s.heap := by rw [B.state]; rfl
    obtain ⟨t, a1, o, b1, b2, b3⟩ := body p e s m args below meth c s₁ B hml hP s₁ hh0 (Stand.of_body B)
    exact ⟨t, o, a1, b1, b2, ⟨b3.1, b3.2⟩⟩
theorem MetZ.ofAt {z : Nat} {l : Launch} {X : Xw} {y : MethodName} {cc : ByteArray} {nL : Nat} {ret : Option FieldType} {f lo : Nat} {av : List Value} {σ : St} {rv : Option Value} {σ' : St} (hy : plainName y.cls = true) (hav : (lg_sl av).length ≤ nL)
    (hbody : ∀ G : Gx, gl G = l → Ok G y.cls cc nL → OkX z G X → Rm G f lo → (∀ (pc : Nat) (lv : List (Nat × Value)), retIs cc ret rv pc → At G nL σ' lv rv.toList pc) → At G nL σ (lv_args 0 av) [] 0) : MetZ z l X y cc nL ret f lo av σ rv σ' := by
  refine Met.ofW (cc := cc) (maxL := nL) (ret := ret) hy rfl ?_
  intro p e s m args below meth c s₁ B hml hv
  obtain ⟨rfl, hP, hK, hXK⟩ := hv
  have hts := atoms_spec (ws := ws_ y cc nL ret) B.pre
  have hts : ∀ w ∈ lw_all, w.before _ s = true := fun w h => hts w (List.mem_cons_of_mem _ h)
  have hown : s.vm.findClass y.cls = some m.cls := findClass_of_methodNamed B.named
  have hl := lv_entry av (n := nL) hav
  rw [lg_entry_eq]
  generalize (lg_sl av ++ List.replicate (nL - (lg_sl av).length) Slot.unset).toArray = ls at hl ⊢
  let G : Gx := (p, l, e, (headSpec (ws_ y cc nL ret) (rmF f lo)).room, s, m, av.toArray, below, meth, c, 0, 0, MQ below (fun _ st oc t => oc = .returned rv ∧ Pic z X σ' t.heap ∧ va_F (xR X) st t) av.toArray s 0 0 (xR X), Pic z X, xR X)
  refine hbody G rfl ⟨B.exec, B.bytes, hml, hown, hts⟩ ⟨hK, rfl, rfl, hXK⟩ ⟨Nat.le_refl _, Nat.le_refl _, Nat.zero_le _, Nat.zero_le _⟩ ?_ s.heap [] ls va_S.rf hP hl
  intro pc lv hd H locs ls hS hP hl
  show W p l e _ s m av.toArray below meth c H locs 0 0 (MQ below (fun _ st oc t => oc = .returned rv ∧ Pic z X σ' t.heap ∧ va_F (xR X) st t) av.toArray s 0 0 (xR X)) (F0 m pc ls rv.toList)
  exact ret_W B.exec B.bytes B.returns B.notSynchronized (fun t ht hW => ⟨rfl, by rw [ht]; exact hP, hS.F ht⟩) hS.2.2 hd
theorem MetS.ofAtF {l : Launch} {y : MethodName} {cc : ByteArray} {nL : Nat} {ret : Option FieldType} {f lo : Nat} {av : List Value} {rv : Option Value} (σ : St) (hy : plainFor y = true) (hav : (lg_sl av).length ≤ nL)
    (hbody : ∀ G : Gx, gl G = l → Ok G y.cls cc nL → Rm G f lo → (∀ (H H1 : Heap), gP G σ H → (∀ q : Nat, q < H.size → H1[q]? = H[q]?) → gP G σ H1) → (∀ (pc : Nat) (lv : List (Nat × Value)), retIs cc ret rv pc → At G nL σ lv rv.toList pc) → At G nL σ (lv_args 0 av) [] 0) : MetS l y cc nL ret f lo av rv := by
  refine Met.ofWF (cc := cc) (maxL := nL) (ret := ret) hy rfl ?_
  intro p e s m args below meth c s₁ B hml hv
  obtain ⟨rfl, -⟩ := hv
  have hts := atoms_spec (ws := ws_ y cc nL ret) B.pre
  have hts : ∀ w ∈ lw_all, w.before _ s = true := fun w h => hts w (List.mem_cons_of_mem _ h)
  have hown : s.vm.findClass y.cls = some m.cls := findClass_of_methodNamed B.named
  have hl := lv_entry av (n := nL) hav
  rw [lg_entry_eq]
  generalize (lg_sl av ++ List.replicate (nL - (lg_sl av).length) Slot.unset).toArray = ls at hl ⊢
  let G : Gx := (p, l, e, (headSpec (ws_ y cc nL ret) (rmF f lo)).room, s, m, av.toArray, below, meth, c, 0, 0, MQ below (fun _ st oc t => oc = .returned rv ∧ va_F (fun _ => False) st t) av.toArray s 0 0 (fun _ => False), (fun _ _ => True), (fun _ => False))
  refine hbody G rfl ⟨B.exec, B.bytes, hml, hown, hts⟩ ⟨Nat.le_refl _, Nat.le_refl _, Nat.zero_le _, Nat.zero_le _⟩ (fun _ _ _ _ => trivial) ?_ s.heap [] ls va_S.rf trivial hl
  intro pc lv hd H locs ls hS hP hl
  show W p l e _ s m av.toArray below meth c H locs 0 0 (MQ below (fun _ st oc t => oc = .returned rv ∧ va_F (fun _ => False) st t) av.toArray s 0 0 (fun _ => False)) (F0 m pc ls rv.toList)
  exact ret_W B.exec B.bytes B.returns B.notSynchronized (fun t ht hW => ⟨rfl, hS.F ht⟩) hS.2.2 hd
theorem MetS.ofAt {l : Launch} {y : MethodName} {cc : ByteArray} {nL : Nat} {ret : Option FieldType} {f lo : Nat} {av : List Value} {rv : Option Value} (σ : St) (hy : plainName y.cls = true) (hav : (lg_sl av).length ≤ nL)
    (hbody : ∀ G : Gx, gl G = l → Ok G y.cls cc nL → Rm G f lo → (∀ (H H1 : Heap), gP G σ H → (∀ q : Nat, q < H.size → H1[q]? = H[q]?) → gP G σ H1) → (∀ (pc : Nat) (lv : List (Nat × Value)), retIs cc ret rv pc → At G nL σ lv rv.toList pc) → At G nL σ (lv_args 0 av) [] 0) : MetS l y cc nL ret f lo av rv := MetS.ofAtF σ (plainFor_of_name hy) hav hbody
section Calls
variable {G : Gx} {own : String} {cc : ByteArray} {nL pc : Nat} {σ σ' : St} {lv : List (Nat × Value)} {st0 st : List Value} {z : Nat} {X : Xw}
/-- a call of a method of the object itself -/
theorem A_callV (Γ : Ok G own cc nL) (Ξ : OkX z G X) (hc : vwCl[z]? = some (RZ z, TZ z, NZ z)) {l : Launch} (hl0 : gl G = l) {y : MethodName} {bytes : ByteArray} {maxL f lo index n : Nat} {ret : Option FieldType} {As : List Value} {rv : Option Value} (hM : MetZ z l X y bytes maxL ret f lo (.ref (xo X) :: As) σ rv σ')
    (hG : GoodIn lw_all (wsV own index (RZ z) y (ws_ y bytes maxL ret))) (hd : y.cls = RZ z ∧ y.cls ≠ "java/lang/invoke/MethodHandle" ∧ y.cls ≠ "java/lang/invoke/VarHandle" ∧ (parseMethodDescriptor y.desc).map (fun d => d.parameters.length) = some n) (hR : f + 1 ≤ (gR G).frames ∧ 8 + (maxL + 11) + lo ≤ (gR G).locals) (hkk : gk G ≤ (gR G).cells ∧ gn G ≤ (gR G).slots)
    (hn : As.length = n) (hst : st0 = As.reverse ++ .ref (xo X) :: st) (hW : (st.map fun v => v.category).sum ≤ 8) (d : decode cc pc = .ok (.invokevirtual index, 3)) (kk : At G nL σ' lv (rv.toList ++ st) (pc + 3)) : At G nL σ lv st0 pc := by
  intro H locs ls hS hP hl T hT X0
  subst hl0
  rw [Ξ.2.1] at hP
  have hrecv : ∃ cellB : Cell, H[xo X]? = some cellB ∧ cellB.vm.isStatics = false ∧ (gs G).vm.findClass (RZ z) = some cellB.cls := by
    obtain ⟨⟨cell, q1, q2, q3, -⟩, -⟩ := hP
    exact ⟨cell, q1, by rw [q3]; rfl, by rw [q2]; exact (Ξ.1.1 z _ hc).2.1⟩
  have cw : CallW (gR G) (gs G) (gar G) own (RZ z) index y bytes maxL ret (ws_ y bytes maxL ret) (rmF f lo) 0 0 n := cwV n Γ.2.2.2.2 hG rfl rfl rfl hd hR
  have hp : PreV (gs G) H (RZ z) (xo X) (va_Pc (.ref (xo X) :: As) (fun U => Pic z X σ U.heap ∧ KX X U ∧ XK U)) As := ⟨fun a U g mk q => ⟨q.1, q.2.1, KX.moved (u := U) (U := U.calling g mk a) (Vm.Alike.refl U.vm) q.2.2.1, XK.same (u := U) (U := U.calling g mk a) rfl q.2.2.2⟩, hrecv, fun U hU hW => ⟨rfl, by rw [hU]; exact hP, KX.moved hW.alike Ξ.1, XK.warm hW Ξ.2.2.2⟩⟩
  obtain ⟨v, st₀, t, T', L, h0, X', hL, e1, e2, ⟨hv, hP1, hz, hk⟩, stp⟩ := va_runV (rest := st) Γ hM cw hp (g := F0 (gm G) pc ls st0) rfl hn hl.1 hst (lv_room (rest := st0) (ls := ls) (pc := pc) (m := gm G) hW) d ⟨hkk.1, hkk.2⟩ T hT X0
  cases hv
  rw [h0] at hz hk
  obtain ⟨t2, a1, b1⟩ := kk T'.heap (locs ++ L) ls ⟨Nat.le_trans hS.1 (by rw [e1]; exact hz), fun q h1 h2 => by rw [e1, hk q (Nat.lt_of_lt_of_le h1 hS.1) (fun w => h2 (by rw [Ξ.2.2.1]; exact w))]; exact hS.2.1 q h1 h2, fun q hq => by
      rcases List.mem_append.mp hq with h | h
      · exact hS.2.2 q h
      · rw [Ξ.2.2.1]; exact hL q h⟩ (by rw [Ξ.2.1, e1]; exact hP1) hl T' rfl X'
  exact ⟨t2, stp t2 a1, b1⟩
/-- a call of a static method of numbers -/
theorem A_callS (Γ : Ok G own cc nL) (hkp : ∀ (H H1 : Heap), gP G σ H → (∀ q : Nat, q < H.size → H1[q]? = H[q]?) → gP G σ H1) {l : Launch} (hl0 : gl G = l) {y : MethodName} {bytes : ByteArray} {maxL f lo index n : Nat} {ret : Option FieldType} {As : List Value} {rv : Option Value} (hM : MetS l y bytes maxL ret f lo As rv)
    (hG : GoodIn lw_all (va_wsS own index y (ws_ y bytes maxL ret))) (hd : y.cls ≠ "java/lang/invoke/MethodHandle" ∧ y.cls ≠ "java/lang/invoke/VarHandle" ∧ (parseMethodDescriptor y.desc).map (fun d => d.parameters.length) = some n) (hR : f + 1 ≤ (gR G).frames ∧ 8 + (maxL + 11) + lo ≤ (gR G).locals) (hkk : gk G ≤ (gR G).cells ∧ gn G ≤ (gR G).slots)
    (hn : As.length = n) (hst : st0 = As.reverse ++ st) (hW : (st.map fun v => v.category).sum ≤ 8) (d : decode cc pc = .ok (.invokestatic index, 3)) (kk : At G nL σ lv (rv.toList ++ st) (pc + 3)) : At G nL σ lv st0 pc := by
  intro H locs ls hS hP hl T hT X0
  subst hl0
  have cw : CallB (gR G) (gs G) (gar G) own index y bytes maxL ret (ws_ y bytes maxL ret) (rmF f lo) 0 0 n ∧ (Cond.static y).before (gar G) (gs G) = true := va_cwS n Γ.2.2.2.2 hG rfl rfl rfl hd hR
  have hp : PreS (gs G) H (va_Pc As (fun _ => True)) As := ⟨fun a U g mk q => ⟨q.1, trivial⟩, fun U hU hW => ⟨rfl, trivial⟩⟩
  obtain ⟨v, st₀, t, T', L, h0, X', hL, e1, e2, ⟨hv, hz, hk⟩, stp⟩ := va_runS (rest := st) Γ hM cw hp (g := F0 (gm G) pc ls st0) rfl hn hl.1 hst (lv_room (rest := st0) (ls := ls) (pc := pc) (m := gm G) hW) d ⟨hkk.1, hkk.2⟩ T hT X0
  cases hv
  rw [h0] at hz hk
  obtain ⟨t2, a1, b1⟩ := kk T'.heap (locs ++ L) ls ⟨Nat.le_trans hS.1 (by rw [e1]; exact hz), fun q h1 h2 => by rw [e1, hk q (Nat.lt_of_lt_of_le h1 hS.1) (fun w => w)]; exact hS.2.1 q h1 h2, fun q hq => by
      rcases List.mem_append.mp hq with h | h
      · exact hS.2.2 q h
      · exact (hL q h).elim⟩ (hkp H _ hP (fun q hq => by rw [e1]; exact hk q hq (fun w => w))) hl T' rfl X'
  exact ⟨t2, stp t2 a1, b1⟩
theorem kpX (Ξ : OkX z G X) {σ : St} : ∀ (H H1 : Heap), gP G σ H → (∀ q : Nat, q < H.size → H1[q]? = H[q]?) → gP G σ H1 := fun H H1 h hq => by
  rw [Ξ.2.1] at h ⊢
  exact h.kept (fun q h1 _ => hq q h1)
end Calls
