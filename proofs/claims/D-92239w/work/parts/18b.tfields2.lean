section TFields
variable {G : Gx} {cc : ByteArray} {nL pc : Nat} {σ σ1 : St} {lv : List (Nat × Value)} {st : List Value} {X : Xw} {q n : Nat} {v : Value}
theorem gTX2_3 (Γ : Ok G RX2 cc nL) (Ξ : OkX 0 G X) (hq : kTr q) (hv : v = .ref (xad X q)) {x : Int32} (h : rdT σ q 3 = some x) (d : decode cc pc = .ok (.getfield 15, 3)) (kk : At G nL σ lv (.int x :: st) (pc + 3)) : At G nL σ lv (v :: st) pc := by
  obtain ⟨n, hL, hok, rfl⟩ := rdT_in h
  exact A_getT Γ Ξ hq hv (f := 3) (C := fun n => okT n 3 = true) (n4 (by decide) (by decide) (by decide) (by decide)) q569 hL hok (tv_int hok) d kk
theorem pTX2_3 (Γ : Ok G RX2 cc nL) (Ξ : OkX 0 G X) (hq : kTr q) (hv : v = .ref (xad X q)) {x : Int32} (h : wrT σ q 3 x = some σ1) (d : decode cc pc = .ok (.putfield 15, 3)) (kk : At G nL σ1 lv st (pc + 3)) : At G nL σ lv (.int x :: v :: st) pc := A_putT Γ Ξ hq hv (f := 3) (ty := .int) (n4 (by decide) (by decide) (by decide) (by decide)) q569 rfl rfl h d kk
theorem gTX2_6 (Γ : Ok G RX2 cc nL) (Ξ : OkX 0 G X) (hq : kTr q) (hv : v = .ref (xad X q)) {x : Int32} (h : rdT σ q 6 = some x) (d : decode cc pc = .ok (.getfield 19, 3)) (kk : At G nL σ lv (.int x :: st) (pc + 3)) : At G nL σ lv (v :: st) pc := by
  obtain ⟨n, hL, hok, rfl⟩ := rdT_in h
  exact A_getT Γ Ξ hq hv (f := 6) (C := fun n => okT n 6 = true) (n4 (by decide) (by decide) (by decide) (by decide)) q573 hL hok (tv_int hok) d kk
theorem pTX2_6 (Γ : Ok G RX2 cc nL) (Ξ : OkX 0 G X) (hq : kTr q) (hv : v = .ref (xad X q)) {x : Int32} (h : wrT σ q 6 x = some σ1) (d : decode cc pc = .ok (.putfield 19, 3)) (kk : At G nL σ1 lv st (pc + 3)) : At G nL σ lv (.int x :: v :: st) pc := A_putT Γ Ξ hq hv (f := 6) (ty := .int) (n4 (by decide) (by decide) (by decide) (by decide)) q573 rfl rfl h d kk
theorem gTX2_8 (Γ : Ok G RX2 cc nL) (Ξ : OkX 0 G X) (hq : kTr q) (hv : v = .ref (xad X q)) (hL : cL σ q = some n) (d : decode cc pc = .ok (.getfield 22, 3)) (kk : At G nL σ lv (.ref (xad X (q + 20)) :: st) (pc + 3)) : At G nL σ lv (v :: st) pc := A_getT Γ Ξ hq hv (f := 8) (C := fun _ => True) (n4 (by decide) (by decide) (by decide) (by decide)) q577 hL trivial rfl d kk
theorem gTX2_9 (Γ : Ok G RX2 cc nL) (Ξ : OkX 0 G X) (hq : kTr q) (hv : v = .ref (xad X q)) (hL : cL σ q = some n) (d : decode cc pc = .ok (.getfield 26, 3)) (kk : At G nL σ lv (.ref (xad X (q + 40)) :: st) (pc + 3)) : At G nL σ lv (v :: st) pc := A_getT Γ Ξ hq hv (f := 9) (C := fun _ => True) (n4 (by decide) (by decide) (by decide) (by decide)) q579 hL trivial rfl d kk
theorem gTX2_0 (Γ : Ok G RX2 cc nL) (Ξ : OkX 0 G X) (hq : kTr q) (hv : v = .ref (xad X q)) {x : Int32} (h : rdT σ q 0 = some x) (d : decode cc pc = .ok (.getfield 29, 3)) (kk : At G nL σ lv (.int x :: st) (pc + 3)) : At G nL σ lv (v :: st) pc := by
  obtain ⟨n, hL, hok, rfl⟩ := rdT_in h
  exact A_getT Γ Ξ hq hv (f := 0) (C := fun n => okT n 0 = true) (n4 (by decide) (by decide) (by decide) (by decide)) q562 hL hok (tv_int hok) d kk
theorem gTX2_2 (Γ : Ok G RX2 cc nL) (Ξ : OkX 0 G X) (hq : kTr q) (hv : v = .ref (xad X q)) {x : Int32} (h : rdT σ q 2 = some x) (d : decode cc pc = .ok (.getfield 32, 3)) (kk : At G nL σ lv (.int x :: st) (pc + 3)) : At G nL σ lv (v :: st) pc := by
  obtain ⟨n, hL, hok, rfl⟩ := rdT_in h
  exact A_getT Γ Ξ hq hv (f := 2) (C := fun n => okT n 2 = true) (n4 (by decide) (by decide) (by decide) (by decide)) q567 hL hok (tv_int hok) d kk
theorem pTX2_2 (Γ : Ok G RX2 cc nL) (Ξ : OkX 0 G X) (hq : kTr q) (hv : v = .ref (xad X q)) {x : Int32} (h : wrT σ q 2 x = some σ1) (d : decode cc pc = .ok (.putfield 32, 3)) (kk : At G nL σ1 lv st (pc + 3)) : At G nL σ lv (.int x :: v :: st) pc := A_putT Γ Ξ hq hv (f := 2) (ty := .int) (n4 (by decide) (by decide) (by decide) (by decide)) q567 rfl rfl h d kk
theorem gTX2_1 (Γ : Ok G RX2 cc nL) (Ξ : OkX 0 G X) (hq : kTr q) (hv : v = .ref (xad X q)) {x : Int32} (h : rdT σ q 1 = some x) (d : decode cc pc = .ok (.getfield 35, 3)) (kk : At G nL σ lv (.int x :: st) (pc + 3)) : At G nL σ lv (v :: st) pc := by
  obtain ⟨n, hL, hok, rfl⟩ := rdT_in h
  exact A_getT Γ Ξ hq hv (f := 1) (C := fun n => okT n 1 = true) (n4 (by decide) (by decide) (by decide) (by decide)) q565 hL hok (tv_int hok) d kk
theorem gTX2_7 (Γ : Ok G RX2 cc nL) (Ξ : OkX 0 G X) (hq : kTr q) (hv : v = .ref (xad X q)) {x : Int32} (h : rdT σ q 7 = some x) (d : decode cc pc = .ok (.getfield 38, 3)) (kk : At G nL σ lv (.int x :: st) (pc + 3)) : At G nL σ lv (v :: st) pc := by
  obtain ⟨n, hL, hok, rfl⟩ := rdT_in h
  exact A_getT Γ Ξ hq hv (f := 7) (C := fun n => okT n 7 = true) (n4 (by decide) (by decide) (by decide) (by decide)) q575 hL hok (tv_int hok) d kk
theorem pTX2_7 (Γ : Ok G RX2 cc nL) (Ξ : OkX 0 G X) (hq : kTr q) (hv : v = .ref (xad X q)) {x : Int32} (h : wrT σ q 7 x = some σ1) (d : decode cc pc = .ok (.putfield 38, 3)) (kk : At G nL σ1 lv st (pc + 3)) : At G nL σ lv (.int x :: v :: st) pc := A_putT Γ Ξ hq hv (f := 7) (ty := .int) (n4 (by decide) (by decide) (by decide) (by decide)) q575 rfl rfl h d kk
end TFields
section TFields
variable {G : Gx} {cc : ByteArray} {nL pc : Nat} {σ σ1 : St} {lv : List (Nat × Value)} {st : List Value} {X : Xw} {q n : Nat} {v : Value}
theorem gTX3_11 (Γ : Ok G RX3 cc nL) (Ξ : OkX 0 G X) (hq : kTr q) (hv : v = .ref (xad X q)) {x : Int32} (h : rdT σ q 11 = some x) (d : decode cc pc = .ok (.getfield 13, 3)) (kk : At G nL σ lv (.int x :: st) (pc + 3)) : At G nL σ lv (v :: st) pc := by
  obtain ⟨n, hL, hok, rfl⟩ := rdT_in h
  exact A_getT Γ Ξ hq hv (f := 11) (C := fun n => okT n 11 = true) (n4 (by decide) (by decide) (by decide) (by decide)) q611 hL hok (tv_int hok) d kk
theorem pTX3_11 (Γ : Ok G RX3 cc nL) (Ξ : OkX 0 G X) (hq : kTr q) (hv : v = .ref (xad X q)) {x : Int32} (h : wrT σ q 11 x = some σ1) (d : decode cc pc = .ok (.putfield 13, 3)) (kk : At G nL σ1 lv st (pc + 3)) : At G nL σ lv (.int x :: v :: st) pc := A_putT Γ Ξ hq hv (f := 11) (ty := .int) (n4 (by decide) (by decide) (by decide) (by decide)) q611 rfl rfl h d kk
end TFields
section TFields
variable {G : Gx} {cc : ByteArray} {nL pc : Nat} {σ σ1 : St} {lv : List (Nat × Value)} {st : List Value} {X : Xw} {q n : Nat} {v : Value}
theorem gTX5_13 (Γ : Ok G RX5 cc nL) (Ξ : OkX 0 G X) (hq : kTr q) (hv : v = .ref (xad X q)) {x : Int32} (h : rdT σ q 13 = some x) (d : decode cc pc = .ok (.getfield 21, 3)) (kk : At G nL σ lv (.int x :: st) (pc + 3)) : At G nL σ lv (v :: st) pc := by
  obtain ⟨n, hL, hok, rfl⟩ := rdT_in h
  exact A_getT Γ Ξ hq hv (f := 13) (C := fun n => okT n 13 = true) (n4 (by decide) (by decide) (by decide) (by decide)) q659 hL hok (tv_int hok) d kk
theorem pTX5_13 (Γ : Ok G RX5 cc nL) (Ξ : OkX 0 G X) (hq : kTr q) (hv : v = .ref (xad X q)) {x : Int32} (h : wrT σ q 13 x = some σ1) (d : decode cc pc = .ok (.putfield 21, 3)) (kk : At G nL σ1 lv st (pc + 3)) : At G nL σ lv (.int x :: v :: st) pc := A_putT Γ Ξ hq hv (f := 13) (ty := .int) (n4 (by decide) (by decide) (by decide) (by decide)) q659 rfl rfl h d kk
end TFields
