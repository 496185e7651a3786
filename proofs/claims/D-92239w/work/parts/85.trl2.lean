/-! the four constructors of trailers -/
theorem tt_eq : ∀ n, n < 4 → ∀ k, k < 11 → TT n k = TX2 k ∧ tyT n k = tyX2 k ∧ k < NT n := n4 (by decide +kernel) (by decide +kernel) (by decide +kernel) (by decide +kernel)
theorem nmT : ∀ n, n < 4 → ∀ k, k < 10 → ∀ j, j < NT n → j ≠ k → (TT n j).2.1 ≠ (TT n k).2.1 := n4 (by decide +kernel) (by decide +kernel) (by decide +kernel) (by decide +kernel)
theorem nmT11 : ∀ n, n < 4 → (n = 1 ∨ n = 3) → 11 < NT n ∧ TT n 11 = ("TrailerYards$Cold", "limit", "I", false) ∧ tyT n 11 = .int ∧ ∀ j, j < NT n → j ≠ 11 → (TT n j).2.1 ≠ (TT n 11).2.1 := n4 (by decide +kernel) (by decide +kernel) (by decide +kernel) (by decide +kernel)
def E2 (V : Nat → Option Value) (o : Nat) (x1 x2 x3 : Int32) (b1 b2 : Nat) : Nat → Option Value := updO (updO (updO (updO (updO (updO (updO (updO V 10 (.ref o)) 3 (.int (-9))) 6 (.int 100)) 8 (.ref b1)) 9 (.ref b2)) 0 (.int x1)) 2 (.int x2)) 1 (.int x3)
section Trl2
variable {X : Xw} {σ : St} {n a : Nat} {V : Nat → Option Value} {B : List Nat} {G : Gx} {own : String} {cc : ByteArray} {nL pc : Nat} {lv : List (Nat × Value)} {st : List Value} {c s : Nat}
theorem T_put2 (Γ : Ok G RX2 cc nL) (Κ : OkT G X) (hn4 : n < 4) {k index : Nat} {v : Value} (hk : k < 11) (hlink : Cond.fieldLink RX2 index RX2 (TX2 k).2.1 (TX2 k).2.2.1 ∈ lw_all) (hnr : narrow (tyX2 k) v = v) (hfit : fits (tyX2 k) v = true) (hcol : ∀ j, j < NT n → j ≠ k → (TT n j).2.1 = (TT n k).2.1 → V j = none ∨ V j = some v) (d : decode cc pc = .ok (.putfield index, 3)) (kk : At (gX G c s (TP X n a (updO V k v) B)) nL σ lv st (pc + 3)) : At (gX G c s (TP X n a V B)) nL σ lv (v :: .ref a :: st) pc := by
  obtain ⟨e1, e2, e3⟩ := tt_eq n hn4 k hk
  have h1 : ∀ k, k < 11 → (TX2 k).1 = RX2 := by decide +kernel
  refine T_put (ref := RX2) Γ Κ hn4 e3 (by rw [e1]; exact hlink) (by rw [e1, h1 k hk]; exact fun x h => h) (fun _ => by rw [e1, h1 k hk]) (by rw [e2]; exact hnr) (by rw [e2]; exact hfit) hcol d kk
theorem col_u (hn4 : n < 4) {k : Nat} (hk : k < 10) {v : Value} : ∀ j, j < NT n → j ≠ k → (TT n j).2.1 = (TT n k).2.1 → V j = none ∨ V j = some v := fun j hj hne he => absurd he (nmT n hn4 k hk j hj hne)
theorem T_new2 (Γ : Ok G RX2 cc nL) (Κ : OkT G X) (hn4 : n < 4) {k index : Nat} (hk : k < 10) (hty : tyX2 k = .array .int) (hlink : Cond.fieldLink RX2 index RX2 (TX2 k).2.1 (TX2 k).2.2.1 ∈ lw_all) (hcl : c + 1 ≤ (gR G).cells) (hsl : s + 6 ≤ (gR G).slots) (d1 : decode cc pc = .ok (.newarray .int, 2)) (d2 : decode cc (pc + 2) = .ok (.putfield index, 3))
    (kk : ∀ b : Nat, At (gX G (c + 1) (s + 6) (TP X n a (updO V k (.ref b)) (b :: B))) nL σ lv st (pc + 2 + 3)) : At (gX G c s (TP X n a V B)) nL σ lv (.int 6 :: .ref a :: st) pc := by
  obtain ⟨e1, e2, e3⟩ := tt_eq n hn4 k (by omega)
  have h1 : ∀ k, k < 11 → (TX2 k).1 = RX2 := by decide +kernel
  exact T_new (ref := RX2) Γ Κ hn4 e3 (by rw [e1]; exact hlink) (by rw [e1, h1 k (by omega)]; exact fun x h => h) (fun _ => by rw [e1, h1 k (by omega)]) (by rw [e2]; exact hty) (nmT n hn4 k hk) hcl hsl d1 d2 kk
end Trl2
set_option maxHeartbeats 4000000 in
set_option maxRecDepth 100000 in
theorem mtX2_init (l : Launch) (X : Xw) {n a : Nat} (hn4 : n < 4) (V : Nat → Option Value) (x1 x2 x3 : Int32) (σ : St) (hV : ∀ j, j < NT n → j ≠ 10 → (TT n j).2.1 = (TT n 10).2.1 → V j = none ∨ V j = some (.ref (xo X))) : MetT l X yX2_init cX2_init 1 20 n a V x1 x2 x3 σ (E2 V (xo X) x1 x2 x3) := MetT.ofAt (by decide) rfl (fun G hl Γ Κ hR hret => by
  refine A_aload_n (G := gX G 0 0 (TP X n a V [])) Γ dX2_init_0 0 rfl ?_
  refine A_aload_n (G := gX G 0 0 (TP X n a V [])) Γ dX2_init_1 1 rfl ?_
  refine T_put2 (k := 10) Γ Κ hn4 (by decide) q581 rfl rfl hV dX2_init_2 ?_
  refine A_aload_n Γ dX2_init_5 0 rfl ?_
  refine A_obj (st := []) (G := gX G 0 0 (TP X n a (updO V 10 (.ref (xo X))) [])) Γ q561 (by show 1 ≤ (gR G).frames; rw [hR]; decide) (by show 20 ≤ (gR G).locals; rw [hR]; decide) (Nat.le_of_ble_eq_true rfl) dX2_init_6 ?_
  refine A_aload_n Γ dX2_init_9 0 rfl ?_
  refine A_bipush (v := (-9)) Γ dX2_init_10 (by decide) ?_
  refine T_put2 (k := 3) Γ Κ hn4 (by decide) q569 rfl rfl (col_u hn4 (by decide)) dX2_init_12 ?_
  refine A_aload_n Γ dX2_init_15 0 rfl ?_
  refine A_bipush (v := 100) Γ dX2_init_16 (by decide) ?_
  refine T_put2 (k := 6) Γ Κ hn4 (by decide) q573 rfl rfl (col_u hn4 (by decide)) dX2_init_18 ?_
  refine A_aload_n Γ dX2_init_21 0 rfl ?_
  refine A_bipush (v := 6) Γ dX2_init_22 (by decide) ?_
  refine T_new2 (k := 8) Γ Κ hn4 (by decide) rfl q577 (by rw [hR]; decide) (by rw [hR]; decide) dX2_init_24 dX2_init_26 (fun b1 => ?_)
  refine A_aload_n Γ dX2_init_29 0 rfl ?_
  refine A_bipush (v := 6) Γ dX2_init_30 (by decide) ?_
  refine T_new2 (k := 9) Γ Κ hn4 (by decide) rfl q579 (by rw [hR]; decide) (by rw [hR]; decide) dX2_init_32 dX2_init_34 (fun b2 => ?_)
  refine A_aload_n Γ dX2_init_37 0 rfl ?_
  refine A_iload_n Γ dX2_init_38 2 rfl ?_
  refine T_put2 (k := 0) Γ Κ hn4 (by decide) q562 rfl rfl (col_u hn4 (by decide)) dX2_init_39 ?_
  refine A_aload_n Γ dX2_init_42 0 rfl ?_
  refine A_iload_n Γ dX2_init_43 3 rfl ?_
  refine T_put2 (k := 2) Γ Κ hn4 (by decide) q567 rfl rfl (col_u hn4 (by decide)) dX2_init_44 ?_
  refine A_aload_n Γ dX2_init_47 0 rfl ?_
  refine A_iload Γ dX2_init_48 4 rfl ?_
  refine T_put2 (k := 1) Γ Κ hn4 (by decide) q565 rfl rfl (col_u hn4 (by decide)) dX2_init_50 ?_
  exact hret b1 b2 _ _ dX2_init_53)
def E3 (V : Nat → Option Value) (o : Nat) (x1 x2 x3 : Int32) (b1 b2 : Nat) : Nat → Option Value := updO (E2 (updO V 12 (.ref o)) o x1 x2 x3 b1 b2) 11 (.int 5)
def E4 (V : Nat → Option Value) (o : Nat) (x1 x2 x3 : Int32) (b1 b2 : Nat) : Nat → Option Value := E2 (updO V 11 (.ref o)) o x1 x2 x3 b1 b2
def E5 (V : Nat → Option Value) (o : Nat) (x1 x2 x3 : Int32) (b1 b2 : Nat) : Nat → Option Value := updO (E3 (updO V 14 (.ref o)) o x1 x2 x3 b1 b2) 11 (.int (-18))
theorem hy_init {y : MethodName} (h : y.name = "<init>" ∧ y.cls ≠ "java/lang/invoke/MethodHandle" ∧ y.cls ≠ "java/lang/invoke/VarHandle" ∧ (parseMethodDescriptor y.desc).map (fun d => d.parameters.length) = some 4) : y.name = "<init>" ∧ y.cls ≠ "java/lang/invoke/MethodHandle" ∧ y.cls ≠ "java/lang/invoke/VarHandle" ∧ (parseMethodDescriptor y.desc).map (fun d => d.parameters.length) = some 4 := h
/-- what is not yet known of the fields that name the outer object -/
def VT (n : Nat) (o : Nat) (V : Nat → Option Value) : Prop := ∀ j, j < NT n → (TT n j).2.1 = "this$0" → V j = none ∨ V j = some (.ref o)
theorem VT.up {n o k : Nat} {V : Nat → Option Value} (h : VT n o V) : VT n o (updO V k (.ref o)) := fun j hj he => by
  unfold updO
  by_cases q : j = k
  · rw [if_pos q]; exact Or.inr rfl
  · rw [if_neg q]; exact h j hj he
theorem nm10 : ∀ n, n < 4 → (TT n 10).2.1 = "this$0" := n4 rfl rfl rfl rfl
set_option maxHeartbeats 4000000 in
set_option maxRecDepth 100000 in
theorem mtX3_init (l : Launch) (X : Xw) {n a : Nat} (hn : n = 1 ∨ n = 3) (V : Nat → Option Value) (x1 x2 x3 : Int32) (σ : St) (hV : VT n (xo X) V) : MetT l X yX3_init cX3_init 2 50 n a V x1 x2 x3 σ (E3 V (xo X) x1 x2 x3) := MetT.ofAt (by decide) rfl (fun G hl Γ Κ hR hret => by
  have hn4 : n < 4 := by omega
  obtain ⟨k1, k2, k3, k4⟩ := nmT11 n hn4 hn
  have h12 : 12 < NT n ∧ TT n 12 = ("TrailerYards$Cold", "this$0", "LTrailerYards;", true) ∧ tyT n 12 = .object "TrailerYards" := by
    rcases hn with rfl | rfl <;> exact ⟨by decide, rfl, rfl⟩
  obtain ⟨j1, j2, j3⟩ := h12
  refine A_aload_n (G := gX G 0 0 (TP X n a V [])) Γ dX3_init_0 0 rfl ?_
  refine A_aload_n (G := gX G 0 0 (TP X n a V [])) Γ dX3_init_1 1 rfl ?_
  refine T_put (k := 12) (ref := RX3) Γ Κ hn4 j1 (by rw [j2]; exact q615) (by rw [j2]; exact fun x h => h) (fun _ => by rw [j2]; rfl) (by rw [j3]; rfl) (by rw [j3]; rfl) (fun j hj _ he => hV j hj (by rw [he, j2])) dX3_init_2 ?_
  refine A_aload_n Γ dX3_init_5 0 rfl ?_
  refine A_aload_n Γ dX3_init_6 1 rfl ?_
  refine A_iload_n Γ dX3_init_7 2 rfl ?_
  refine A_iload_n Γ dX3_init_8 3 rfl ?_
  refine A_iload Γ dX3_init_9 4 rfl ?_
  refine T_call Γ ⟨Κ.1, Κ.2.1, Κ.2.2.1, Κ.2.2.2.2⟩ (mtX2_init (gl G) X hn4 _ x1 x2 x3 σ (fun j hj _ he => hV.up j hj (by rw [he, nm10 n hn4]))) q75 q610 q559 q560 (hy_init (by decide +kernel)) (by rw [hR]; decide) (by rw [hR]; decide) (Nat.le_of_ble_eq_true rfl) dX3_init_11 (fun b1 b2 => ?_)
  refine A_aload_n Γ dX3_init_14 0 rfl ?_
  refine A_iconst (v := 5) Γ dX3_init_15 (by decide) ?_
  refine T_put (k := 11) (ref := RX3) Γ Κ hn4 k1 (by rw [k2]; exact q611) (by rw [k2]; exact fun x h => h) (fun h => by rw [k2] at h; cases h) (by rw [k3]; rfl) (by rw [k3]; rfl) (fun j hj hne he => absurd he (k4 j hj hne)) dX3_init_16 ?_
  exact hret b1 b2 _ _ dX3_init_19)
set_option maxHeartbeats 4000000 in
set_option maxRecDepth 100000 in
theorem mtX4_init (l : Launch) (X : Xw) {a : Nat} (V : Nat → Option Value) (x1 x2 x3 : Int32) (σ : St) (hV : VT 2 (xo X) V) : MetT l X yX4_init cX4_init 2 50 2 a V x1 x2 x3 σ (E4 V (xo X) x1 x2 x3) := MetT.ofAt (by decide) rfl (fun G hl Γ Κ hR hret => by
  refine A_aload_n (G := gX G 0 0 (TP X 2 a V [])) Γ dX4_init_0 0 rfl ?_
  refine A_aload_n (G := gX G 0 0 (TP X 2 a V [])) Γ dX4_init_1 1 rfl ?_
  refine T_put (n := 2) (k := 11) (ref := RX4) Γ Κ (by decide) (by decide) q638 (fun x h => h) (fun _ => rfl) rfl rfl (fun j hj _ he => hV j hj he) dX4_init_2 ?_
  refine A_aload_n Γ dX4_init_5 0 rfl ?_
  refine A_aload_n Γ dX4_init_6 1 rfl ?_
  refine A_iload_n Γ dX4_init_7 2 rfl ?_
  refine A_iload_n Γ dX4_init_8 3 rfl ?_
  refine A_iload Γ dX4_init_9 4 rfl ?_
  refine T_call Γ ⟨Κ.1, Κ.2.1, Κ.2.2.1, Κ.2.2.2.2⟩ (mtX2_init (gl G) X (n := 2) (by decide) _ x1 x2 x3 σ (fun j hj _ he => hV.up j hj he)) q75 q637 q559 q560 (hy_init (by decide +kernel)) (by rw [hR]; decide) (by rw [hR]; decide) (Nat.le_of_ble_eq_true rfl) dX4_init_11 (fun b1 b2 => ?_)
  exact hret b1 b2 _ _ dX4_init_14)
set_option maxHeartbeats 4000000 in
set_option maxRecDepth 100000 in
theorem mtX5_init (l : Launch) (X : Xw) {a : Nat} (V : Nat → Option Value) (x1 x2 x3 : Int32) (σ : St) (hV : VT 3 (xo X) V) : MetT l X yX5_init cX5_init 3 80 3 a V x1 x2 x3 σ (E5 V (xo X) x1 x2 x3) := MetT.ofAt (by decide) rfl (fun G hl Γ Κ hR hret => by
  obtain ⟨k1, k2, k3, k4⟩ := nmT11 3 (by decide) (Or.inr rfl)
  refine A_aload_n (G := gX G 0 0 (TP X 3 a V [])) Γ dX5_init_0 0 rfl ?_
  refine A_aload_n (G := gX G 0 0 (TP X 3 a V [])) Γ dX5_init_1 1 rfl ?_
  refine T_put (n := 3) (k := 14) (ref := RX5) Γ Κ (by decide) (by decide) q660 (fun x h => h) (fun _ => rfl) rfl rfl (fun j hj _ he => hV j hj he) dX5_init_2 ?_
  refine A_aload_n Γ dX5_init_5 0 rfl ?_
  refine A_aload_n Γ dX5_init_6 1 rfl ?_
  refine A_iload_n Γ dX5_init_7 2 rfl ?_
  refine A_iload_n Γ dX5_init_8 3 rfl ?_
  refine A_iload Γ dX5_init_9 4 rfl ?_
  refine T_call Γ ⟨Κ.1, Κ.2.1, Κ.2.2.1, Κ.2.2.2.2⟩ (mtX3_init (gl G) X (n := 3) (Or.inr rfl) _ x1 x2 x3 σ hV.up) q76 q658 q608 q609 (hy_init (by decide +kernel)) (by rw [hR]; decide) (by rw [hR]; decide) (Nat.le_of_ble_eq_true rfl) dX5_init_11 (fun b1 b2 => ?_)
  refine A_aload_n Γ dX5_init_14 0 rfl ?_
  refine A_bipush (v := (-18)) Γ dX5_init_15 (by decide) ?_
  refine T_put (n := 3) (k := 11) (ref := RX5) Γ Κ (by decide) k1 q612 (u_same (Γ.2.2.2.2 _ q613)) (fun h => by rw [k2] at h; cases h) rfl rfl (fun j hj hne he => absurd he (k4 j hj hne)) dX5_init_17 ?_
  exact hret b1 b2 _ _ dX5_init_20)
