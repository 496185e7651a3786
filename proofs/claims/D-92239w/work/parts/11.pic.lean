/-! the picture of an object's world, and its changes -/
abbrev vwCl : List vw_C := [(RX0, TX0, 62), (RX1, TX1, 73), (RX2, TX2, 11), (RX3, TX3, 13), (RX4, TX4, 12), (RX5, TX5, 15)]
/-- o, addresses by key, classes, slots, array classes, the region -/
abbrev Xw : Type := Nat × (Nat → Nat) × (Nat → ClassId) × (Nat → Nat → Nat) × (Nat → ClassId) × (Nat → Prop)
abbrev xo (X : Xw) : Nat := X.1
abbrev xad (X : Xw) : Nat → Nat := X.2.1
abbrev xC (X : Xw) : Nat → ClassId := X.2.2.1
abbrev xI (X : Xw) : Nat → Nat → Nat := X.2.2.2.1
abbrev xA (X : Xw) : Nat → ClassId := X.2.2.2.2.1
abbrev xR (X : Xw) : Nat → Prop := X.2.2.2.2.2
abbrev tysX (X : Xw) : List (ClassId × FieldType) := [(xA X 0, .int), (xA X 1, .boolean), (xA X 2, .byte), (xA X 3, .long), (xA X 4, .array .int), (xA X 5, .array .byte), (xA X 6, .object RX2)]
def tyZ (z k : Nat) : FieldType := match z with
  | 0 => tyX0 k
  | _ => tyX1 k
def NZ (z : Nat) : Nat := match z with
  | 0 => 62
  | _ => 73
def RZ (z : Nat) : String := match z with
  | 0 => RX0
  | _ => RX1
def TZ (z : Nat) : u_T := match z with
  | 0 => TX0
  | _ => TX1
def lenZ (z k : Nat) : Nat := match z with
  | 0 => (match k with
    | 1 => 6 | 5 => 6 | 6 => 4 | 8 => 20 | 9 => 20 | 10 => 20 | 12 => 64 | 13 => 64 | 14 => 64 | 15 => 64 | 16 => 8 | 17 => 8 | 18 => 12
    | 23 => 60 | 24 => 60 | 25 => 60 | 26 => 60 | 27 => 60 | 28 => 6 | 29 => 6 | 30 => 6 | 31 => 6 | 32 => 6 | 34 => 20 | 35 => 20 | 36 => 20
    | 37 => 400 | 38 => 400 | 39 => 400 | 43 => 6 | 44 => 6 | 45 => 6 | 48 => 8 | 49 => 8 | 52 => 8 | 53 => 8 | 54 => 64 | 55 => 64 | 56 => 16 | 57 => 16
    | 59 => 40 | 60 => 410 | _ => 0)
  | _ => (match k with
    | 1 => 6 | 6 => 6 | 7 => 240 | 8 => 40 | 9 => 4 | 10 => 160 | 11 => 64 | 12 => 64 | 13 => 64 | 14 => 64 | 15 => 8
    | 17 => 12 | 18 => 12 | 19 => 12 | 20 => 12 | 21 => 12 | 22 => 12 | 23 => 12 | 24 => 72 | 25 => 72 | 26 => 12 | 27 => 12 | 28 => 12
    | 29 => 6 | 30 => 6 | 31 => 6 | 32 => 6 | 33 => 6 | 35 => 60 | 36 => 60 | 37 => 60 | 38 => 60 | 39 => 60 | 41 => 20 | 42 => 20 | 43 => 360 | 44 => 18
    | 55 => 6 | 56 => 6 | 57 => 6 | 59 => 6 | 60 => 6 | 61 => 6 | 63 => 64 | 64 => 8 | 65 => 8 | 66 => 64 | 67 => 16 | 68 => 16 | 70 => 40 | 71 => 410 | _ => 0)
/-- is it an array? -/
def isA (ty : FieldType) : Bool := match ty with
  | .array _ => true
  | _ => false
def fv (z : Nat) (X : Xw) (σ : St) (k : Nat) : Value := match tyZ z k with
  | .int => .int (cI σ k)
  | .boolean => .int (cI σ k)
  | .long => .long (cJ σ k)
  | .array _ => .ref (xad X k)
  | _ => .null
/-- a reference that is there by its key, or null -/
def rk (X : Xw) (σ : St) (q : Nat) : Option Nat := if (cL σ q).isSome = true then some (xad X q) else none
def cellZ (z : Nat) (X : Xw) (σ : St) (k : Nat) : Cell := match tyZ z k with
  | .array .int => arrV (xA X 0) (lenZ z k) (fun j => .int (cA σ k j))
  | .array .boolean => arrV (xA X 1) (lenZ z k) (fun j => .int (cA σ k j))
  | .array .byte => arrV (xA X 2) (lenZ z k) (fun j => .int (cA σ k j))
  | .array .long => arrV (xA X 3) (lenZ z k) (fun j => .long (cB σ k j))
  | .array (.array .int) => arrV (xA X 4) (lenZ z k) (fun j => va_rf (rk X σ (100 + j)))
  | .array (.array .byte) => arrV (xA X 5) (lenZ z k) (fun j => va_rf (rk X σ (110 + j)))
  | _ => arrV (xA X 6) (lenZ z k) (fun j => va_rf (rk X σ (120 + j)))
/-- a trailer's fields: of kind n -/
def tv (X : Xw) (σ : St) (q n k : Nat) : Value := if k = 8 then .ref (xad X (q + 20)) else if k = 9 then .ref (xad X (q + 40)) else if k = 10 ∨ k = 12 ∨ k = 14 ∨ (k = 11 ∧ n = 2) then .ref (xo X) else .int (cA σ q k)
def NT (n : Nat) : Nat := match n with
  | 0 => 11
  | 1 => 13
  | 2 => 12
  | _ => 15
def dynAt (X : Xw) (σ : St) (q n : Nat) (H : Heap) : Prop :=
  (q < 110 ∨ 140 ≤ q → H[xad X q]? = some (arrV (xA X 0) n (fun j => .int (cA σ q j)))) ∧
  (110 ≤ q → q < 120 → H[xad X q]? = some (arrV (xA X 2) n (fun j => .int (cA σ q j)))) ∧
  (120 ≤ q → q < 140 → n < 4 ∧ t_OB (xad X q) (xC X (2 + n)) (NT n) (xI X (2 + n)) H (tv X σ q n))
def live (z : Nat) (σ : St) (k : Nat) : Prop := (k < NZ z ∧ isA (tyZ z k) = true) ∨ (z = 0 ∧ 100 ≤ k ∧ (cL σ k).isSome = true)
def Pic (z : Nat) (X : Xw) (σ : St) (H : Heap) : Prop :=
  t_OB (xo X) (xC X z) (NZ z) (xI X z) H (fv z X σ) ∧
  (∀ k, k < NZ z → isA (tyZ z k) = true → H[xad X k]? = some (cellZ z X σ k)) ∧
  (z = 0 → ∀ q n, 100 ≤ q → cL σ q = some n → dynAt X σ q n H) ∧
  (∀ j k, live z σ j → live z σ k → xad X j = xad X k → j = k) ∧
  (∀ k, live z σ k → xR X (xad X k) ∧ xad X k ≠ xo X) ∧ xR X (xo X)
def KX (X : Xw) (U : State) : Prop := va_K (xC X, xI X) vwCl (tysX X) U
/-- words of the tables that don't ride in the lists: nest mates' links, casts, the interface -/
abbrev jC : MethodName := ⟨RX6, "isCold", "()Z"⟩
abbrev kC3 : MethodName := ⟨RX3, "isCold", "()Z"⟩
def xks : List Cond := [.fieldLinkNest RX2 48 RX0 "mostAxle" "I" RX0, .fieldLinkNest RX2 51 RX0 "mostPin" "I" RX0, .fieldLinkNest RX4 19 RX0 "now" "I" RX0, .fieldLinkNest RX4 23 RX0 "entryMinute" "[I" RX0,
  .methodLinkNest RX4 30 ⟨RX0, "entryOf", "(II)I"⟩ RX0, .castable RX5 RX3]
/-- an interface's own default runs -/
def va_Dd (C : String) (x : MethodName) (U : State) : Prop := ∃ (c : ClassId) (r : MethodId), U.vm.findClass C = some c ∧ U.methodNamed? x = some r ∧ selectMethod {} U.vm c r = .method r
theorem va_Dd.moved {C : String} {x : MethodName} {u U : State} (h : u.vm.Alike U.vm) (hd : va_Dd C x u) : va_Dd C x U := by
  obtain ⟨c, r, h1, h2, h3⟩ := hd
  refine ⟨c, r, by rw [h.findClass]; exact h1, ?_, by rw [h.selectMethod]; exact h3⟩
  have e : U.methodNamed? x = (u.setVm U.vm).methodNamed? x := rfl
  rw [e, State.methodNamed?_setVm h]
  exact h2
def XK (U : State) : Prop := (∀ w ∈ xks, va_Nw w U) ∧ (va_Fw RX2 jC jC U ∧ va_Fw RX3 jC kC3 U ∧ va_Fw RX4 jC jC U ∧ va_Fw RX5 jC kC3 U) ∧ va_Nc RX3 RX5 U ∧ va_Dd RX2 jC U ∧ va_Dd RX4 jC U
theorem xks_on : ∀ w ∈ xks, w.onTables = true := by
  intro w hw
  simp only [xks, List.mem_cons, List.not_mem_nil, or_false] at hw
  rcases hw with rfl | rfl | rfl | rfl | rfl | rfl <;> rfl
theorem XK.same {u U : State} (h : u.vm = U.vm) (hk : XK u) : XK U := by
  have ha : u.vm.Alike U.vm := by rw [h]; exact Vm.Alike.refl _
  obtain ⟨h1, ⟨f1, f2, f3, f4⟩, h3, d1, d2⟩ := hk
  exact ⟨fun w hw => va_Nw.same (xks_on w hw) h (h1 w hw), ⟨va_Fw.moved (by decide) ha f1, va_Fw.moved (by decide) ha f2, va_Fw.moved (by decide) ha f3, va_Fw.moved (by decide) ha f4⟩, va_Nc.moved ha h3, d1.moved ha, d2.moved ha⟩
theorem XK.warm {s U : State} (hW : s.WarmedH U.vm) (hk : XK s) : XK U := by
  obtain ⟨h1, ⟨f1, f2, f3, f4⟩, h3, d1, d2⟩ := hk
  refine ⟨fun w hw => ?_, ⟨va_Fw.moved (by decide) hW.alike f1, va_Fw.moved (by decide) hW.alike f2, va_Fw.moved (by decide) hW.alike f3, va_Fw.moved (by decide) hW.alike f4⟩, va_Nc.moved hW.alike h3, d1.moved hW.alike, d2.moved hW.alike⟩
  have h2 := h1 w hw
  simp only [xks, List.mem_cons, List.not_mem_nil, or_false] at hw
  rcases hw with rfl | rfl | rfl | rfl | rfl | rfl
  · exact va_Nw.warmF hW h2
  · exact va_Nw.warmF hW h2
  · exact va_Nw.warmF hW h2
  · exact va_Nw.warmF hW h2
  · exact va_Nw.warmM hW h2
  · exact va_Nw.warmC hW h2
theorem KX.moved {X : Xw} {u U : State} (hvm : u.vm.Alike U.vm) (h : KX X u) : KX X U := va_K.moved hvm h
theorem NZ_le (z : Nat) : NZ z ≤ 73 := by
  unfold NZ
  split <;> omega
theorem dynAt.kept {X : Xw} {σ σ' : St} {q n : Nat} {H H1 : Heap} (h : dynAt X σ q n H) (hq : H1[xad X q]? = H[xad X q]?) (ha : cA σ' q = cA σ q) : dynAt X σ' q n H1 := by
  obtain ⟨h1, h2, h3⟩ := h
  refine ⟨fun a => by rw [hq, ha]; exact h1 a, fun a b => by rw [hq, ha]; exact h2 a b, fun a b => ⟨(h3 a b).1, ?_⟩⟩
  have h4 := (h3 a b).2.kept hq
  have e : tv X σ' q n = tv X σ q n := by funext k; unfold tv; rw [ha]
  rw [e]
  exact h4
theorem dynAt.lt {X : Xw} {σ : St} {q n : Nat} {H : Heap} (h : dynAt X σ q n H) : xad X q < H.size := by
  obtain ⟨h1, h2, h3⟩ := h
  by_cases a : q < 110 ∨ 140 ≤ q
  · exact (Array.getElem?_eq_some_iff.mp (h1 a)).1
  · by_cases b : q < 120
    · exact (Array.getElem?_eq_some_iff.mp (h2 (by omega) b)).1
    · obtain ⟨cell, g1, -⟩ := (h3 (by omega) (by omega)).2
      exact (Array.getElem?_eq_some_iff.mp g1).1
theorem Pic.lt {z : Nat} {X : Xw} {σ : St} {H : Heap} (h : Pic z X σ H) {k : Nat} (hk : live z σ k) : xad X k < H.size := by
  rcases hk with ⟨a, b⟩ | ⟨a, b, c⟩
  · exact (Array.getElem?_eq_some_iff.mp (h.2.1 k a b)).1
  · cases hc : cL σ k with
    | none => rw [hc] at c; cases c
    | some n => exact (h.2.2.1 a k n b hc).lt
theorem Pic.lto {z : Nat} {X : Xw} {σ : St} {H : Heap} (h : Pic z X σ H) : xo X < H.size := by
  obtain ⟨⟨cell, g1, -⟩, -⟩ := h
  exact (Array.getElem?_eq_some_iff.mp g1).1
/-- all cells of the picture stay -/
theorem Pic.kept {z : Nat} {X : Xw} {σ : St} {H H1 : Heap} (h : Pic z X σ H) (hq : ∀ q : Nat, q < H.size → xR X q → H1[q]? = H[q]?) : Pic z X σ H1 := by
  have hl := fun {k : Nat} => h.lt (k := k)
  have ho := h.lto
  obtain ⟨h1, h2, h3, h4, h5, h6⟩ := h
  refine ⟨h1.kept (hq _ ho h6), fun k a b => ?_, fun a q n b c => ?_, h4, h5, h6⟩
  · rw [hq _ (hl (Or.inl ⟨a, b⟩)) (h5 k (Or.inl ⟨a, b⟩)).1]
    exact h2 k a b
  · have hv : live z σ q := Or.inr ⟨a, b, by rw [c]; rfl⟩
    exact (h3 a q n b c).kept (hq _ (hl hv) (h5 q hv).1) rfl
/-- one fixed array changes -/
theorem Pic.upA {z : Nat} {X : Xw} {σ σ' : St} {H H1 : Heap} {k : Nat} (h : Pic z X σ H) (hk : k < NZ z) (ha : isA (tyZ z k) = true) (e : H1[xad X k]? = some (cellZ z X σ' k)) (oq : ∀ q : Nat, q ≠ xad X k → H1[q]? = H[q]?) (h1 : ∀ j, fv z X σ' j = fv z X σ j) (h2 : ∀ j, j ≠ k → cellZ z X σ' j = cellZ z X σ j) (hL : ∀ q, cL σ' q = cL σ q) (h3 : ∀ q, 100 ≤ q → cA σ' q = cA σ q) : Pic z X σ' H1 := by
  have hlk : live z σ k := Or.inl ⟨hk, ha⟩
  have hv : ∀ j, live z σ' j → live z σ j := fun j hj => by
    rcases hj with q | ⟨a, b, c⟩
    · exact Or.inl q
    · exact Or.inr ⟨a, b, by rw [← hL]; exact c⟩
  obtain ⟨g1, g2, g3, g4, g5, g6⟩ := h
  have ne : ∀ j, live z σ j → j ≠ k → xad X j ≠ xad X k := fun j hj hn q => hn (g4 j k hj hlk q)
  refine ⟨?_, fun j a b => ?_, fun a q n b c => ?_, fun i j hi hj => g4 i j (hv i hi) (hv j hj), fun j hj => g5 j (hv j hj), g6⟩
  · exact (g1.kept (oq _ (fun q => (g5 k hlk).2 q.symm))).to (fun j _ => (h1 j).symm)
  · by_cases hj : j = k
    · subst hj; exact e
    · rw [h2 j hj, oq _ (ne j (Or.inl ⟨a, b⟩) hj)]
      exact g2 j a b
  · rw [hL] at c
    have hq : live z σ q := Or.inr ⟨a, b, by rw [c]; rfl⟩
    have hz := NZ_le z
    exact (g3 a q n b c).kept (oq _ (ne q hq (by omega))) (h3 q b)
theorem cellZ_ne {z : Nat} {X : Xw} {σ : St} {k j i : Nat} {v : Int32} (hn : j ≠ k) : cellZ z X (sA σ k i v) j = cellZ z X σ j := by
  have e1 : cA (sA σ k i v) j = cA σ j := by rw [cA_sA, if_neg hn]
  unfold cellZ
  rw [e1]
  rfl
theorem cellZ_neB {z : Nat} {X : Xw} {σ : St} {k j i : Nat} {v : Int64} (hn : j ≠ k) : cellZ z X (sB σ k i v) j = cellZ z X σ j := by
  have e1 : cB (sB σ k i v) j = cB σ j := by rw [cB_sB, if_neg hn]
  unfold cellZ
  rw [e1]
  rfl
theorem cellZ_sI {z : Nat} {X : Xw} {σ : St} {k j : Nat} {v : Int32} : cellZ z X (sI σ k v) j = cellZ z X σ j := rfl
theorem cellZ_sJ {z : Nat} {X : Xw} {σ : St} {k j : Nat} {v : Int64} : cellZ z X (sJ σ k v) j = cellZ z X σ j := rfl
theorem updV_int (f : Nat → Int32) (k : Nat) (v : Int32) : updV (fun j => Value.int (f j)) k (.int v) = fun j => .int (upd f k v j) := by
  funext j
  unfold updV upd
  split <;> rfl
theorem updV_long (f : Nat → Int64) (k : Nat) (v : Int64) : updV (fun j => Value.long (f j)) k (.long v) = fun j => .long (vp_updL f k v j) := by
  funext j
  unfold updV vp_updL
  split <;> rfl
theorem Pic.setA {z : Nat} {X : Xw} {σ : St} {H H1 : Heap} {k i : Nat} {v : Int32} (h : Pic z X σ H) (hk : k < NZ z) (hz : z = 0 → k < 62) {ci : Nat} (hc : ∀ σ : St, cellZ z X σ k = arrV (xA X ci) (lenZ z k) (fun j => .int (cA σ k j))) (ha : isA (tyZ z k) = true) (e : H1[xad X k]? = some ((cellZ z X σ k).setSlot i (.int v))) (oq : ∀ q : Nat, q ≠ xad X k → H1[q]? = H[q]?) : Pic z X (sA σ k i v) H1 := by
  have hz := NZ_le z
  refine h.upA hk ha ?_ oq (fun j => rfl) (fun j hj => cellZ_ne hj) (fun q => rfl) (fun q hq => ?_)
  · rw [e, hc, hc, arrV_store, updV_int]
    simp only [cA_sA, if_true]
  · rw [cA_sA, if_neg (by omega)]
theorem Pic.setB {z : Nat} {X : Xw} {σ : St} {H H1 : Heap} {k i : Nat} {v : Int64} (h : Pic z X σ H) (hk : k < NZ z) (hc : ∀ σ : St, cellZ z X σ k = arrV (xA X 3) (lenZ z k) (fun j => .long (cB σ k j))) (ha : isA (tyZ z k) = true) (e : H1[xad X k]? = some ((cellZ z X σ k).setSlot i (.long v))) (oq : ∀ q : Nat, q ≠ xad X k → H1[q]? = H[q]?) : Pic z X (sB σ k i v) H1 := by
  refine h.upA hk ha ?_ oq (fun j => rfl) (fun j hj => cellZ_neB hj) (fun q => rfl) (fun q hq => rfl)
  rw [e, hc, hc, arrV_store, updV_long]
  simp only [cB_sB, if_true]
/-- a field of the object changes -/
theorem Pic.upO {z : Nat} {X : Xw} {σ σ' : St} {H H1 : Heap} (h : Pic z X σ H) (e : t_OB (xo X) (xC X z) (NZ z) (xI X z) H1 (fv z X σ')) (oq : ∀ q : Nat, q ≠ xo X → H1[q]? = H[q]?) (h2 : ∀ j, cellZ z X σ' j = cellZ z X σ j) (hL : ∀ q, cL σ' q = cL σ q) (h3 : ∀ q, cA σ' q = cA σ q) : Pic z X σ' H1 := by
  have hv : ∀ j, live z σ' j → live z σ j := fun j hj => by
    rcases hj with q | ⟨a, b, c⟩
    · exact Or.inl q
    · exact Or.inr ⟨a, b, by rw [← hL]; exact c⟩
  obtain ⟨g1, g2, g3, g4, g5, g6⟩ := h
  refine ⟨e, fun j a b => ?_, fun a q n b c => ?_, fun i j hi hj => g4 i j (hv i hi) (hv j hj), fun j hj => g5 j (hv j hj), g6⟩
  · rw [h2 j, oq _ (g5 j (Or.inl ⟨a, b⟩)).2]
    exact g2 j a b
  · rw [hL] at c
    have hq : live z σ q := Or.inr ⟨a, b, by rw [c]; rfl⟩
    exact (g3 a q n b c).kept (oq _ (g5 q hq).2) (h3 q)
