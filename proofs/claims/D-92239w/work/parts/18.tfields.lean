section TFields
variable {G : Gx} {cc : ByteArray} {nL pc : Nat} {σ σ1 : St} {lv : List (Nat × Value)} {st : List Value} {X : Xw} {q n : Nat} {v : Value}
theorem gTX0_2 (Γ : Ok G RX0 cc nL) (Ξ : OkX 0 G X) (hq : kTr q) (hv : v = .ref (xad X q)) {x : Int32} (h : rdT σ q 2 = some x) (d : decode cc pc = .ok (.getfield 272, 3)) (kk : At G nL σ lv (.int x :: st) (pc + 3)) : At G nL σ lv (v :: st) pc := by
  obtain ⟨n, hL, hok, rfl⟩ := rdT_in h
  exact A_getT Γ Ξ hq hv (f := 2) (C := fun n => okT n 2 = true) (n4 (by decide) (by decide) (by decide) (by decide)) q568 hL hok (tv_int hok) d kk
theorem pTX0_2 (Γ : Ok G RX0 cc nL) (Ξ : OkX 0 G X) (hq : kTr q) (hv : v = .ref (xad X q)) {x : Int32} (h : wrT σ q 2 x = some σ1) (d : decode cc pc = .ok (.putfield 272, 3)) (kk : At G nL σ1 lv st (pc + 3)) : At G nL σ lv (.int x :: v :: st) pc := A_putT Γ Ξ hq hv (f := 2) (ty := .int) (n4 (by decide) (by decide) (by decide) (by decide)) q568 rfl rfl h d kk
theorem gTX0_3 (Γ : Ok G RX0 cc nL) (Ξ : OkX 0 G X) (hq : kTr q) (hv : v = .ref (xad X q)) {x : Int32} (h : rdT σ q 3 = some x) (d : decode cc pc = .ok (.getfield 275, 3)) (kk : At G nL σ lv (.int x :: st) (pc + 3)) : At G nL σ lv (v :: st) pc := by
  obtain ⟨n, hL, hok, rfl⟩ := rdT_in h
  exact A_getT Γ Ξ hq hv (f := 3) (C := fun n => okT n 3 = true) (n4 (by decide) (by decide) (by decide) (by decide)) q570 hL hok (tv_int hok) d kk
theorem pTX0_3 (Γ : Ok G RX0 cc nL) (Ξ : OkX 0 G X) (hq : kTr q) (hv : v = .ref (xad X q)) {x : Int32} (h : wrT σ q 3 x = some σ1) (d : decode cc pc = .ok (.putfield 275, 3)) (kk : At G nL σ1 lv st (pc + 3)) : At G nL σ lv (.int x :: v :: st) pc := A_putT Γ Ξ hq hv (f := 3) (ty := .int) (n4 (by decide) (by decide) (by decide) (by decide)) q570 rfl rfl h d kk
theorem gTX0_4 (Γ : Ok G RX0 cc nL) (Ξ : OkX 0 G X) (hq : kTr q) (hv : v = .ref (xad X q)) {x : Int32} (h : rdT σ q 4 = some x) (d : decode cc pc = .ok (.getfield 278, 3)) (kk : At G nL σ lv (.int x :: st) (pc + 3)) : At G nL σ lv (v :: st) pc := by
  obtain ⟨n, hL, hok, rfl⟩ := rdT_in h
  exact A_getT Γ Ξ hq hv (f := 4) (C := fun n => okT n 4 = true) (n4 (by decide) (by decide) (by decide) (by decide)) q571 hL hok (tv_int hok) d kk
theorem pTX0_4 (Γ : Ok G RX0 cc nL) (Ξ : OkX 0 G X) (hq : kTr q) (hv : v = .ref (xad X q)) {x : Int32} (hb : x = 0 ∨ x = 1) (h : wrT σ q 4 x = some σ1) (d : decode cc pc = .ok (.putfield 278, 3)) (kk : At G nL σ1 lv st (pc + 3)) : At G nL σ lv (.int x :: v :: st) pc := A_putT Γ Ξ hq hv (f := 4) (ty := .boolean) (n4 (by decide) (by decide) (by decide) (by decide)) q571 (by rcases hb with rfl | rfl <;> rfl) (by rcases hb with rfl | rfl <;> rfl) h d kk
theorem gTX0_1 (Γ : Ok G RX0 cc nL) (Ξ : OkX 0 G X) (hq : kTr q) (hv : v = .ref (xad X q)) {x : Int32} (h : rdT σ q 1 = some x) (d : decode cc pc = .ok (.getfield 282, 3)) (kk : At G nL σ lv (.int x :: st) (pc + 3)) : At G nL σ lv (v :: st) pc := by
  obtain ⟨n, hL, hok, rfl⟩ := rdT_in h
  exact A_getT Γ Ξ hq hv (f := 1) (C := fun n => okT n 1 = true) (n4 (by decide) (by decide) (by decide) (by decide)) q566 hL hok (tv_int hok) d kk
theorem gTX0_6 (Γ : Ok G RX0 cc nL) (Ξ : OkX 0 G X) (hq : kTr q) (hv : v = .ref (xad X q)) {x : Int32} (h : rdT σ q 6 = some x) (d : decode cc pc = .ok (.getfield 285, 3)) (kk : At G nL σ lv (.int x :: st) (pc + 3)) : At G nL σ lv (v :: st) pc := by
  obtain ⟨n, hL, hok, rfl⟩ := rdT_in h
  exact A_getT Γ Ξ hq hv (f := 6) (C := fun n => okT n 6 = true) (n4 (by decide) (by decide) (by decide) (by decide)) q574 hL hok (tv_int hok) d kk
theorem pTX0_6 (Γ : Ok G RX0 cc nL) (Ξ : OkX 0 G X) (hq : kTr q) (hv : v = .ref (xad X q)) {x : Int32} (h : wrT σ q 6 x = some σ1) (d : decode cc pc = .ok (.putfield 285, 3)) (kk : At G nL σ1 lv st (pc + 3)) : At G nL σ lv (.int x :: v :: st) pc := A_putT Γ Ξ hq hv (f := 6) (ty := .int) (n4 (by decide) (by decide) (by decide) (by decide)) q574 rfl rfl h d kk
theorem gTX0_7 (Γ : Ok G RX0 cc nL) (Ξ : OkX 0 G X) (hq : kTr q) (hv : v = .ref (xad X q)) {x : Int32} (h : rdT σ q 7 = some x) (d : decode cc pc = .ok (.getfield 288, 3)) (kk : At G nL σ lv (.int x :: st) (pc + 3)) : At G nL σ lv (v :: st) pc := by
  obtain ⟨n, hL, hok, rfl⟩ := rdT_in h
  exact A_getT Γ Ξ hq hv (f := 7) (C := fun n => okT n 7 = true) (n4 (by decide) (by decide) (by decide) (by decide)) q576 hL hok (tv_int hok) d kk
theorem pTX0_7 (Γ : Ok G RX0 cc nL) (Ξ : OkX 0 G X) (hq : kTr q) (hv : v = .ref (xad X q)) {x : Int32} (h : wrT σ q 7 x = some σ1) (d : decode cc pc = .ok (.putfield 288, 3)) (kk : At G nL σ1 lv st (pc + 3)) : At G nL σ lv (.int x :: v :: st) pc := A_putT Γ Ξ hq hv (f := 7) (ty := .int) (n4 (by decide) (by decide) (by decide) (by decide)) q576 rfl rfl h d kk
theorem gTX0_5 (Γ : Ok G RX0 cc nL) (Ξ : OkX 0 G X) (hq : kTr q) (hv : v = .ref (xad X q)) {x : Int32} (h : rdT σ q 5 = some x) (d : decode cc pc = .ok (.getfield 291, 3)) (kk : At G nL σ lv (.int x :: st) (pc + 3)) : At G nL σ lv (v :: st) pc := by
  obtain ⟨n, hL, hok, rfl⟩ := rdT_in h
  exact A_getT Γ Ξ hq hv (f := 5) (C := fun n => okT n 5 = true) (n4 (by decide) (by decide) (by decide) (by decide)) q572 hL hok (tv_int hok) d kk
theorem pTX0_5 (Γ : Ok G RX0 cc nL) (Ξ : OkX 0 G X) (hq : kTr q) (hv : v = .ref (xad X q)) {x : Int32} (hb : x = 0 ∨ x = 1) (h : wrT σ q 5 x = some σ1) (d : decode cc pc = .ok (.putfield 291, 3)) (kk : At G nL σ1 lv st (pc + 3)) : At G nL σ lv (.int x :: v :: st) pc := A_putT Γ Ξ hq hv (f := 5) (ty := .boolean) (n4 (by decide) (by decide) (by decide) (by decide)) q572 (by rcases hb with rfl | rfl <;> rfl) (by rcases hb with rfl | rfl <;> rfl) h d kk
theorem gTX0_11 (Γ : Ok G RX0 cc nL) (Ξ : OkX 0 G X) (hq : kTr q) (hv : v = .ref (xad X q)) {x : Int32} (h : rdT σ q 11 = some x) (d : decode cc pc = .ok (.getfield 311, 3)) (kk : At G nL σ lv (.int x :: st) (pc + 3)) : At G nL σ lv (v :: st) pc := by
  obtain ⟨n, hL, hok, rfl⟩ := rdT_in h
  exact A_getT Γ Ξ hq hv (f := 11) (C := fun n => okT n 11 = true) (n4 (by decide) (by decide) (by decide) (by decide)) q614 hL hok (tv_int hok) d kk
theorem pTX0_11 (Γ : Ok G RX0 cc nL) (Ξ : OkX 0 G X) (hq : kTr q) (hv : v = .ref (xad X q)) {x : Int32} (h : wrT σ q 11 x = some σ1) (d : decode cc pc = .ok (.putfield 311, 3)) (kk : At G nL σ1 lv st (pc + 3)) : At G nL σ lv (.int x :: v :: st) pc := A_putT Γ Ξ hq hv (f := 11) (ty := .int) (n4 (by decide) (by decide) (by decide) (by decide)) q614 rfl rfl h d kk
theorem gTX0_8 (Γ : Ok G RX0 cc nL) (Ξ : OkX 0 G X) (hq : kTr q) (hv : v = .ref (xad X q)) (hL : cL σ q = some n) (d : decode cc pc = .ok (.getfield 342, 3)) (kk : At G nL σ lv (.ref (xad X (q + 20)) :: st) (pc + 3)) : At G nL σ lv (v :: st) pc := A_getT Γ Ξ hq hv (f := 8) (C := fun _ => True) (n4 (by decide) (by decide) (by decide) (by decide)) q578 hL trivial rfl d kk
theorem gTX0_9 (Γ : Ok G RX0 cc nL) (Ξ : OkX 0 G X) (hq : kTr q) (hv : v = .ref (xad X q)) (hL : cL σ q = some n) (d : decode cc pc = .ok (.getfield 345, 3)) (kk : At G nL σ lv (.ref (xad X (q + 40)) :: st) (pc + 3)) : At G nL σ lv (v :: st) pc := A_getT Γ Ξ hq hv (f := 9) (C := fun _ => True) (n4 (by decide) (by decide) (by decide) (by decide)) q580 hL trivial rfl d kk
end TFields
