/-! plain law: what holds between the class' state and the reference's -/
def eqI : List (Nat × Nat) := [(0, 0), (2, 2), (11, 5), (19, 16), (20, 46), (21, 47), (22, 34), (33, 40), (47, 58), (58, 69)]
def eqJ : List (Nat × Nat) := [(3, 3), (4, 4), (40, 45)]
def eqA : List (Nat × Nat) := [(1, 1), (12, 11), (13, 12), (14, 13), (15, 14), (23, 35), (24, 36), (25, 37), (26, 38), (27, 39), (28, 29), (29, 30), (30, 31), (31, 32), (32, 33), (34, 41), (35, 42), (43, 55), (59, 70)]
theorem eqI_u : ∀ p ∈ eqI, ∀ q ∈ eqI, (p.1 = q.1 ↔ p.2 = q.2) := by decide
theorem eqJ_u : ∀ p ∈ eqJ, ∀ q ∈ eqJ, (p.1 = q.1 ↔ p.2 = q.2) := by decide
theorem eqA_u : ∀ p ∈ eqA, ∀ q ∈ eqA, (p.1 = q.1 ↔ p.2 = q.2) := by decide
def Req (σ τ : St) : Prop := (∀ p ∈ eqI, cI σ p.1 = cI τ p.2) ∧ (∀ p ∈ eqJ, cJ σ p.1 = cJ τ p.2) ∧ ∀ p ∈ eqA, cA σ p.1 = cA τ p.2
section Req0
variable {σ τ : St}
theorem Req.I (h : Req σ τ) (a b : Nat) (m : (a, b) ∈ eqI) : cI σ a = cI τ b := h.1 (a, b) m
theorem Req.J (h : Req σ τ) (a b : Nat) (m : (a, b) ∈ eqJ) : cJ σ a = cJ τ b := h.2.1 (a, b) m
theorem Req.A (h : Req σ τ) (a b : Nat) (m : (a, b) ∈ eqA) : cA σ a = cA τ b := h.2.2 (a, b) m
theorem Req.wI (h : Req σ τ) {a b : Nat} {v w : Int32} (m : (a, b) ∈ eqI) (hv : v = w) : Req (sI σ a v) (sI τ b w) := by
  refine ⟨fun p hp => ?_, h.2.1, h.2.2⟩
  rw [cI_sI, cI_sI]
  by_cases q : p.1 = a
  · rw [if_pos q, if_pos ((eqI_u p hp (a, b) m).mp q), hv]
  · rw [if_neg q, if_neg (fun r => q ((eqI_u p hp (a, b) m).mpr r))]
    exact h.1 p hp
theorem Req.wJ (h : Req σ τ) {a b : Nat} {v w : Int64} (m : (a, b) ∈ eqJ) (hv : v = w) : Req (sJ σ a v) (sJ τ b w) := by
  refine ⟨h.1, fun p hp => ?_, h.2.2⟩
  rw [cJ_sJ, cJ_sJ]
  by_cases q : p.1 = a
  · rw [if_pos q, if_pos ((eqJ_u p hp (a, b) m).mp q), hv]
  · rw [if_neg q, if_neg (fun r => q ((eqJ_u p hp (a, b) m).mpr r))]
    exact h.2.1 p hp
theorem Req.wAr (h : Req σ τ) {a b : Nat} {f g : Nat → Int32} (m : (a, b) ∈ eqA) (hv : f = g) : Req (sAr σ a f) (sAr τ b g) := by
  refine ⟨h.1, h.2.1, fun p hp => ?_⟩
  rw [cA_sAr, cA_sAr]
  by_cases q : p.1 = a
  · rw [if_pos q, if_pos ((eqA_u p hp (a, b) m).mp q), hv]
  · rw [if_neg q, if_neg (fun r => q ((eqA_u p hp (a, b) m).mpr r))]
    exact h.2.2 p hp
theorem Req.wA (h : Req σ τ) {a b i : Nat} {v w : Int32} (m : (a, b) ∈ eqA) (hv : v = w) : Req (sA σ a i v) (sA τ b i w) := h.wAr m (by rw [h.A a b m, hv])
/-- what the other side doesn't see -/
theorem Req.xI (h : Req σ τ) {a : Nat} {v : Int32} (m : ∀ p ∈ eqI, p.1 ≠ a) : Req (sI σ a v) τ := ⟨fun p hp => by rw [cI_sI, if_neg (m p hp)]; exact h.1 p hp, h.2.1, h.2.2⟩
theorem Req.yI (h : Req σ τ) {a : Nat} {v : Int32} (m : ∀ p ∈ eqI, p.2 ≠ a) : Req σ (sI τ a v) := ⟨fun p hp => by rw [cI_sI, if_neg (m p hp)]; exact h.1 p hp, h.2.1, h.2.2⟩
theorem Req.xJ (h : Req σ τ) {a : Nat} {v : Int64} (m : ∀ p ∈ eqJ, p.1 ≠ a) : Req (sJ σ a v) τ := ⟨h.1, fun p hp => by rw [cJ_sJ, if_neg (m p hp)]; exact h.2.1 p hp, h.2.2⟩
theorem Req.yJ (h : Req σ τ) {a : Nat} {v : Int64} (m : ∀ p ∈ eqJ, p.2 ≠ a) : Req σ (sJ τ a v) := ⟨h.1, fun p hp => by rw [cJ_sJ, if_neg (m p hp)]; exact h.2.1 p hp, h.2.2⟩
theorem Req.xAr (h : Req σ τ) {a : Nat} {f : Nat → Int32} (m : ∀ p ∈ eqA, p.1 ≠ a) : Req (sAr σ a f) τ := ⟨h.1, h.2.1, fun p hp => by rw [cA_sAr, if_neg (m p hp)]; exact h.2.2 p hp⟩
theorem Req.yAr (h : Req σ τ) {a : Nat} {f : Nat → Int32} (m : ∀ p ∈ eqA, p.2 ≠ a) : Req σ (sAr τ a f) := ⟨h.1, h.2.1, fun p hp => by rw [cA_sAr, if_neg (m p hp)]; exact h.2.2 p hp⟩
theorem Req.xA (h : Req σ τ) {a i : Nat} {v : Int32} (m : ∀ p ∈ eqA, p.1 ≠ a) : Req (sA σ a i v) τ := h.xAr m
theorem Req.yA (h : Req σ τ) {a i : Nat} {v : Int32} (m : ∀ p ∈ eqA, p.2 ≠ a) : Req σ (sA τ a i v) := h.yAr m
theorem Req.xL (h : Req σ τ) {a : Nat} {n : Option Nat} : Req (sL σ a n) τ := h
theorem Req.yB (h : Req σ τ) {a i : Nat} {v : Int64} : Req σ (sB τ a i v) := h
theorem eqA_hi {a : Nat} (h : 100 ≤ a) : ∀ p ∈ eqA, p.1 ≠ a := by
  have : ∀ p ∈ eqA, p.1 < 100 := by decide
  exact fun p hp q => by have := this p hp; omega
end Req0
/-! rows, texts, trailers -/
def Rrw (b N : Nat) (L : Nat → Option Nat) (A : Nat → Nat → Int32) (sz rw_ : Nat → Int32) : Prop :=
  ∀ r, r < N → (L (b + r) = none ∧ sz r = -9) ∨ ∃ n, n ≤ 40 ∧ L (b + r) = some n ∧ sz r = nI n ∧ ∀ j, j < n → A (b + r) j = rw_ (40 * r + j)
/-- a trailer's fields: class, reference -/
def tfm : List (Nat × Nat) := [(1, 21), (2, 18), (3, 19), (4, 20), (5, 26), (6, 22), (7, 23), (11, 27), (13, 28)]
theorem tfm_u : ∀ p ∈ tfm, ∀ q ∈ tfm, (p.1 = q.1 ↔ p.2 = q.2) := by decide
/-- trailer t on both sides -/
def Tr1 (L : Nat → Option Nat) (A : Nat → Nat → Int32) (M : Nat → Nat → Int32) (t : Nat) : Prop :=
  ∃ kd, kd < 4 ∧ L (120 + t) = some kd ∧ M 17 t = nI kd ∧ L (140 + t) = some 6 ∧ L (160 + t) = some 6 ∧ A (120 + t) 0 = nI t ∧
    (∀ p ∈ tfm, okT kd p.1 = true → A (120 + t) p.1 = M p.2 t) ∧ ∀ j, j < 6 → A (140 + t) j = M 24 (6 * t + j) ∧ A (160 + t) j = M 25 (6 * t + j)
def Tr0 (L : Nat → Option Nat) (M : Nat → Nat → Int32) (t : Nat) : Prop := (L (120 + t) = none ∧ L (140 + t) = none ∧ L (160 + t) = none) ∧ M 20 t = 0 ∧ M 23 t = 0 ∧ M 26 t = 0 ∧ M 28 t = 0 ∧ ∀ j, j < 6 → M 24 (6 * t + j) = 0 ∧ M 25 (6 * t + j) = 0
def Rtr (L : Nat → Option Nat) (A : Nat → Nat → Int32) (M : Nat → Nat → Int32) (n : Nat) : Prop := (∀ t, t < n → Tr1 L A M t) ∧ ∀ t, n ≤ t → t < 12 → Tr0 L M t
/-! terms -/
/-- what an item is about -/
def abt (wh yd : Int32) : Nat := if wh = 0 then nN yd else if wh = 1 then 8 + nN yd else 14 + nN wh
/-- what the first m items from base say of b: the last one counts -/
def sys (W Y V : Nat → Int32) (base : Nat) : Nat → Nat → Int32
  | 0, _ => -9
  | m + 1, b => if abt (W (base + m)) (Y (base + m)) = b then V (base + m) else sys W Y V base m b
def itOk (W Y V : Nat → Int32) (k : Nat) : Prop := ∃ w y v, w < 4 ∧ y < 8 ∧ v < 10000 ∧ W k = nI w ∧ Y k = nI y ∧ V k = nI v
def Rtm (It W Y V : Nat → Int32) (Sy : Nat → Int32) (To Fr : Nat → Int32) (q : Nat) : Prop :=
  ∀ t, t < q → ∃ m, m ≤ 20 ∧ It t = nI m ∧ (∀ k, k < m → itOk W Y V (20 * t + k)) ∧ (∀ b, b < 18 → Sy (18 * t + b) = sys W Y V (20 * t) m b) ∧ isN (To t) 69 ∧ isN (Fr t) 69
/-! the book and what else holds on one side -/
def Bk (n N w : Nat) (tr so mi by_ yd lost sld : Nat → Int32) : Prop :=
  (∀ e, e < N → (∃ t, t < n ∧ tr e = nI t) ∧ isN (mi e) w ∧ ∃ s, s < 6 ∧ so e = nI s ∧ (s = 0 → ∃ y, y < 8 ∧ by_ e = nI y ∧ yd e = nI y) ∧ (s = 1 → (∃ k, k < 6 ∧ by_ e = nI k) ∧ ∃ y, y < 8 ∧ yd e = nI y)) ∧
  (∀ t, t < n → ∃ e, e < N ∧ tr e = nI t ∧ so e = nI 0 ∧ ∀ e', e' < e → tr e' ≠ nI t) ∧
  (∀ e, e < N → so e = nI 5 → ∃ e', e' < e ∧ tr e' = tr e ∧ (so e' = nI 3 ∨ so e' = nI 4)) ∧
  (∀ t, t < n → sld t = 0 ∨ (sld t = 1 ∧ ∃ e, e < N ∧ tr e = nI t ∧ (so e = nI 3 ∨ so e = nI 4))) ∧
  (∀ t, t < n → lost t = 0 ∨ (lost t = 1 ∧ ∃ e, e < N ∧ tr e = nI t ∧ so e = nI 2 ∧ ∀ e', e' < N → e < e' → tr e' = nI t → so e' ≠ nI 0 ∧ so e' ≠ nI 1 ∧ so e' ≠ nI 2))
def Tk (n : Nat) (stands hit lost yards since has : Nat → Int32) : Prop :=
  (∀ k, k < 6 → (∃ y, y < 8 ∧ yards k = nI y) ∧ isN (since k) 99999 ∧ (has k = -9 ∨ ∃ t, t < n ∧ has k = nI t ∧ hit t = nI k ∧ stands t = -9 ∧ lost t = 0)) ∧
  ∀ t, t < n → (hit t = -9 ∨ ∃ k, k < 6 ∧ hit t = nI k) ∧ (lost t = 1 → stands t = -9) ∧ (stands t = -9 ∨ ∃ y, y < 8 ∧ stands t = nI y)
def Ld (n : Nat) (worths axles loads : Nat → Int32) : Prop := ∀ t, t < n → isN (loads t) 6 ∧ isN (worths t) 100000 ∧ ∃ a, 60 ≤ a ∧ a ≤ 120 ∧ axles t = nI a
def Wy (mi tl ev fi : Nat → Int32) : Prop := (∀ k, k < 64 → wyOk mi tl ev fi k) ∧ (∀ x y, x < 8 → y < 8 → mi (8 * x + y) = mi (8 * y + x) ∧ tl (8 * x + y) = tl (8 * y + x)) ∧ ∀ x, x < 8 → mi (8 * x + x) = 0
/-- the counts: now, trailers, entries, terms -/
def Cn (τ : St) (w n N q : Nat) : Prop := w ≤ 99999 ∧ n ≤ 12 ∧ N ≤ 60 ∧ q ≤ 20 ∧ cI τ 5 = nI w ∧ cI τ 16 = nI n ∧ cI τ 34 = nI N ∧ cI τ 40 = nI q
def R (σ τ : St) : Prop := ∃ w n N q, Cn τ w n N q ∧ Req σ τ ∧
  (Rrw 100 6 (cL σ) (cA σ) (cA τ 6) (cA τ 7) ∧ Rrw 110 4 (cL σ) (cA σ) (cA τ 9) (cA τ 10)) ∧
  Rtr (cL σ) (cA σ) (cA τ) n ∧ Rtm (cA σ 36) (cA σ 37) (cA σ 38) (cA σ 39) (cA τ 43) (cA τ 41) (cA τ 42) q ∧
  (isN (cI τ 58) 6 ∧ (∀ j, j < nN (cI τ 58) → cA σ 48 j = cA τ 59 j) ∧ isN (cI τ 69) 40) ∧
  Bk n N w (cA τ 35) (cA τ 36) (cA τ 37) (cA τ 38) (cA τ 39) (cA τ 20) (cA τ 26) ∧
  Tk n (cA τ 18) (cA τ 19) (cA τ 20) (cA τ 29) (cA τ 30) (cA τ 31) ∧ Ld n (cA τ 21) (cA τ 22) (cA τ 23) ∧ Wy (cA τ 11) (cA τ 12) (cA τ 13) (cA τ 14)
/-! frames: what groups see -/
theorem Rrw.to {b N : Nat} {L L' : Nat → Option Nat} {A A' : Nat → Nat → Int32} {s r : Nat → Int32} (h : Rrw b N L A s r) (hL : ∀ k, k < N → L' (b + k) = L (b + k)) (hA : ∀ k, k < N → A' (b + k) = A (b + k)) : Rrw b N L' A' s r := fun k hk => by
  rw [hL k hk, hA k hk]
  exact h k hk
def dynM : List Nat := [17, 18, 19, 20, 21, 22, 23, 24, 25, 26, 27, 28]
theorem Tr1.to {L L' : Nat → Option Nat} {A A' M M' : Nat → Nat → Int32} {t : Nat} (h : Tr1 L A M t) (hL : ∀ k, 120 ≤ k → L' k = L k) (hA : ∀ k, 120 ≤ k → A' k = A k) (hM : ∀ k ∈ dynM, M' k = M k) : Tr1 L' A' M' t := by
  unfold Tr1
  rw [hL _ (by omega), hL _ (by omega), hL _ (by omega), hA _ (by omega), hA _ (by omega), hA _ (by omega), hM 17 (by decide), hM 24 (by decide), hM 25 (by decide)]
  obtain ⟨kd, h1, h2, h3, h4, h5, h6, h7, h8⟩ := h
  refine ⟨kd, h1, h2, h3, h4, h5, h6, fun p hp ho => ?_, h8⟩
  have : ∀ p ∈ tfm, p.2 ∈ dynM := by decide
  rw [hM _ (this p hp)]
  exact h7 p hp ho
theorem Tr0.to {L L' : Nat → Option Nat} {M M' : Nat → Nat → Int32} {t : Nat} (h : Tr0 L M t) (hL : ∀ k, 120 ≤ k → L' k = L k) (hM : ∀ k ∈ dynM, M' k = M k) : Tr0 L' M' t := by
  unfold Tr0
  rw [hL _ (by omega), hL _ (by omega), hL _ (by omega), hM 20 (by decide), hM 23 (by decide), hM 24 (by decide), hM 25 (by decide), hM 26 (by decide), hM 28 (by decide)]
  exact h
theorem Rtr.to {L L' : Nat → Option Nat} {A A' M M' : Nat → Nat → Int32} {n : Nat} (h : Rtr L A M n) (hL : ∀ k, 120 ≤ k → L' k = L k) (hA : ∀ k, 120 ≤ k → A' k = A k) (hM : ∀ k ∈ dynM, M' k = M k) : Rtr L' A' M' n :=
  ⟨fun t ht => (h.1 t ht).to hL hA hM, fun t h1 h2 => (h.2 t h1 h2).to hL hM⟩
/-- only what is scratch has changed, on the class' side -/
def scI : List Nat := [7, 41, 42, 46, 50, 51]
def scA : List Nat := [8, 9, 10, 16, 17, 44, 45, 49, 52, 53, 54, 55, 56, 57, 60]
def ScC (σ σ' : St) : Prop := (∀ k, k ∉ scI → cI σ' k = cI σ k) ∧ (∀ k, k ≠ 61 → cJ σ' k = cJ σ k) ∧ (∀ k, k ∉ scA → cA σ' k = cA σ k) ∧ ∀ k, cL σ' k = cL σ k
def smI : List Nat := [48, 49, 50, 51, 52, 53, 54, 62]
def smA : List Nat := [8, 15, 44, 56, 57, 60, 61, 63, 64, 65, 66, 67, 68]
def ScM (τ τ' : St) : Prop := (∀ k, k ∉ smI → cI τ' k = cI τ k) ∧ (∀ k, k ≠ 72 → cJ τ' k = cJ τ k) ∧ ∀ k, k ∉ smA → cA τ' k = cA τ k
section Scr
variable {σ σ' σ2 τ τ' τ2 : St}
theorem ScC.rfl : ScC σ σ := ⟨fun _ _ => Eq.refl _, fun _ _ => Eq.refl _, fun _ _ => Eq.refl _, fun _ => Eq.refl _⟩
theorem ScC.trans (h : ScC σ σ') (k : ScC σ' σ2) : ScC σ σ2 := ⟨fun i hi => (k.1 i hi).trans (h.1 i hi), fun i hi => (k.2.1 i hi).trans (h.2.1 i hi), fun i hi => (k.2.2.1 i hi).trans (h.2.2.1 i hi), fun i => (k.2.2.2 i).trans (h.2.2.2 i)⟩
theorem ScC.wI (h : ScC σ σ') {k : Nat} {v : Int32} (m : k ∈ scI) : ScC σ (sI σ' k v) := ⟨fun i hi => by rw [cI_sI, if_neg (show ¬ i = k from fun q => hi (by rw [q]; exact m))]; exact h.1 i hi, h.2.1, h.2.2.1, h.2.2.2⟩
theorem ScC.wAr (h : ScC σ σ') {k : Nat} {f : Nat → Int32} (m : k ∈ scA) : ScC σ (sAr σ' k f) := ⟨h.1, h.2.1, fun i hi => by rw [cA_sAr, if_neg (show ¬ i = k from fun q => hi (by rw [q]; exact m))]; exact h.2.2.1 i hi, h.2.2.2⟩
theorem ScC.wA (h : ScC σ σ') {k i : Nat} {v : Int32} (m : k ∈ scA) : ScC σ (sA σ' k i v) := h.wAr m
theorem ScC.wJ (h : ScC σ σ') {v : Int64} : ScC σ (sJ σ' 61 v) := ⟨h.1, fun i hi => by rw [cJ_sJ, if_neg hi]; exact h.2.1 i hi, h.2.2.1, h.2.2.2⟩
theorem ScM.rfl : ScM τ τ := ⟨fun _ _ => Eq.refl _, fun _ _ => Eq.refl _, fun _ _ => Eq.refl _⟩
theorem ScM.trans (h : ScM τ τ') (k : ScM τ' τ2) : ScM τ τ2 := ⟨fun i hi => (k.1 i hi).trans (h.1 i hi), fun i hi => (k.2.1 i hi).trans (h.2.1 i hi), fun i hi => (k.2.2 i hi).trans (h.2.2 i hi)⟩
theorem ScM.wI (h : ScM τ τ') {k : Nat} {v : Int32} (m : k ∈ smI) : ScM τ (sI τ' k v) := ⟨fun i hi => by rw [cI_sI, if_neg (show ¬ i = k from fun q => hi (by rw [q]; exact m))]; exact h.1 i hi, h.2.1, h.2.2⟩
theorem ScM.wAr (h : ScM τ τ') {k : Nat} {f : Nat → Int32} (m : k ∈ smA) : ScM τ (sAr τ' k f) := ⟨h.1, h.2.1, fun i hi => by rw [cA_sAr, if_neg (show ¬ i = k from fun q => hi (by rw [q]; exact m))]; exact h.2.2 i hi⟩
theorem ScM.wA (h : ScM τ τ') {k i : Nat} {v : Int32} (m : k ∈ smA) : ScM τ (sA τ' k i v) := h.wAr m
theorem ScM.wJ (h : ScM τ τ') {v : Int64} : ScM τ (sJ τ' 72 v) := ⟨h.1, fun i hi => by rw [cJ_sJ, if_neg hi]; exact h.2.1 i hi, h.2.2⟩
theorem ScM.wB (h : ScM τ τ') {k i : Nat} {v : Int64} : ScM τ (sB τ' k i v) := h
theorem sc_hi {k : Nat} (h : 100 ≤ k) : k ∉ scA := fun q => by
  have : ∀ k ∈ scA, k < 100 := by decide
  have := this k q
  omega
theorem Req.scr (h : Req σ τ) (hc : ScC σ σ') (hm : ScM τ τ') : Req σ' τ' := by
  have a1 : ∀ p ∈ eqI, p.1 ∉ scI ∧ p.2 ∉ smI := by decide
  have a2 : ∀ p ∈ eqJ, p.1 ≠ 61 ∧ p.2 ≠ 72 := by decide
  have a3 : ∀ p ∈ eqA, p.1 ∉ scA ∧ p.2 ∉ smA := by decide
  refine ⟨fun p hp => ?_, fun p hp => ?_, fun p hp => ?_⟩
  · rw [hc.1 _ (a1 p hp).1, hm.1 _ (a1 p hp).2]; exact h.1 p hp
  · rw [hc.2.1 _ (a2 p hp).1, hm.2.1 _ (a2 p hp).2]; exact h.2.1 p hp
  · rw [hc.2.2.1 _ (a3 p hp).1, hm.2.2 _ (a3 p hp).2]; exact h.2.2 p hp
theorem R.scr (h : R σ τ) (hc : ScC σ σ') (hm : ScM τ τ') : R σ' τ' := by
  obtain ⟨w, n, N, q, h1, h2, h3, h4, h5, h6, h7, h8, h9, h10⟩ := h
  refine ⟨w, n, N, q, ?_, h2.scr hc hm, ?_, ?_, ?_, ?_, ?_, ?_, ?_, ?_⟩
  · unfold Cn
    rw [hm.1 5 (by decide), hm.1 16 (by decide), hm.1 34 (by decide), hm.1 40 (by decide)]
    exact h1
  · rw [hm.2.2 6 (by decide), hm.2.2 7 (by decide), hm.2.2 9 (by decide), hm.2.2 10 (by decide)]
    exact ⟨h3.1.to (fun k _ => hc.2.2.2 _) (fun k _ => hc.2.2.1 _ (sc_hi (by omega))), h3.2.to (fun k _ => hc.2.2.2 _) (fun k _ => hc.2.2.1 _ (sc_hi (by omega)))⟩
  · exact h4.to (fun k _ => hc.2.2.2 k) (fun k hk => hc.2.2.1 k (sc_hi (by omega))) (fun k hk => hm.2.2 k (by
      have : ∀ k ∈ dynM, k ∉ smA := by decide
      exact this k hk))
  · rw [hc.2.2.1 36 (by decide), hc.2.2.1 37 (by decide), hc.2.2.1 38 (by decide), hc.2.2.1 39 (by decide), hm.2.2 43 (by decide), hm.2.2 41 (by decide), hm.2.2 42 (by decide)]
    exact h5
  · rw [hm.1 58 (by decide), hm.1 69 (by decide), hc.2.2.1 48 (by decide), hm.2.2 59 (by decide)]
    exact h6
  · rw [hm.2.2 35 (by decide), hm.2.2 36 (by decide), hm.2.2 37 (by decide), hm.2.2 38 (by decide), hm.2.2 39 (by decide), hm.2.2 20 (by decide), hm.2.2 26 (by decide)]
    exact h7
  · rw [hm.2.2 18 (by decide), hm.2.2 19 (by decide), hm.2.2 20 (by decide), hm.2.2 29 (by decide), hm.2.2 30 (by decide), hm.2.2 31 (by decide)]
    exact h8
  · rw [hm.2.2 21 (by decide), hm.2.2 22 (by decide), hm.2.2 23 (by decide)]
    exact h9
  · rw [hm.2.2 11 (by decide), hm.2.2 12 (by decide), hm.2.2 13 (by decide), hm.2.2 14 (by decide)]
    exact h10
end Scr
/-- what is the same on both sides changes, nothing else is seen of it -/
theorem R.chg {σ σ' τ τ' : St} (h : R σ τ) (hq : Req σ' τ') (hI : ∀ k ∈ [5, 16, 34, 40, 58, 69], cI τ' k = cI τ k) (hL : ∀ k, cL σ' k = cL σ k) (hA : ∀ k, 33 ≤ k → cA σ' k = cA σ k) (hM : ∀ k ∈ [6, 7, 9, 10, 11, 12, 13, 14, 17, 18, 19, 20, 21, 22, 23, 24, 25, 26, 27, 28, 29, 30, 31, 35, 36, 37, 38, 39, 41, 42, 43, 59], cA τ' k = cA τ k) : R σ' τ' := by
  obtain ⟨w, n, N, q, h1, h2, h3, h4, h5, h6, h7, h8, h9, h10⟩ := h
  refine ⟨w, n, N, q, ?_, hq, ?_, ?_, ?_, ?_, ?_, ?_, ?_, ?_⟩
  · unfold Cn
    rw [hI 5 (by decide), hI 16 (by decide), hI 34 (by decide), hI 40 (by decide)]
    exact h1
  · rw [hM 6 (by decide), hM 7 (by decide), hM 9 (by decide), hM 10 (by decide)]
    exact ⟨h3.1.to (fun k _ => hL _) (fun k _ => hA _ (by omega)), h3.2.to (fun k _ => hL _) (fun k _ => hA _ (by omega))⟩
  · exact h4.to (fun k _ => hL k) (fun k hk => hA k (by omega)) (fun k hk => hM k (by
      have : ∀ k ∈ dynM, k ∈ [6, 7, 9, 10, 11, 12, 13, 14, 17, 18, 19, 20, 21, 22, 23, 24, 25, 26, 27, 28, 29, 30, 31, 35, 36, 37, 38, 39, 41, 42, 43, 59] := by decide
      exact this k hk))
  · rw [hA 36 (by decide), hA 37 (by decide), hA 38 (by decide), hA 39 (by decide), hM 43 (by decide), hM 41 (by decide), hM 42 (by decide)]
    exact h5
  · rw [hI 58 (by decide), hI 69 (by decide), hA 48 (by decide), hM 59 (by decide)]
    exact h6
  · rw [hM 35 (by decide), hM 36 (by decide), hM 37 (by decide), hM 38 (by decide), hM 39 (by decide), hM 20 (by decide), hM 26 (by decide)]
    exact h7
  · rw [hM 18 (by decide), hM 19 (by decide), hM 20 (by decide), hM 29 (by decide), hM 30 (by decide), hM 31 (by decide)]
    exact h8
  · rw [hM 21 (by decide), hM 22 (by decide), hM 23 (by decide)]
    exact h9
  · rw [hM 11 (by decide), hM 12 (by decide), hM 13 (by decide), hM 14 (by decide)]
    exact h10
theorem k10 : ¬ (1 : Int32) = 0 := by decide
theorem k00 : (0 : Int32) = 0 := rfl
/-! answers of both sides -/
def Rq {α : Type} (p q : α × St) : Prop := p.1 = q.1 ∧ R p.2 q.2
section Basic
variable {σ τ : St}
theorem R.eq (h : R σ τ) : Req σ τ := by
  obtain ⟨w, n, N, q, h1, h2, -⟩ := h
  exact h2
theorem R.n16 (h : R σ τ) : ∃ n, n ≤ 12 ∧ cI σ 19 = nI n ∧ cI τ 16 = nI n := by
  obtain ⟨w, n, N, q, h1, h2, -⟩ := h
  exact ⟨n, h1.2.1, (h2.I 19 16 (by decide)).trans h1.2.2.2.2.2.1, h1.2.2.2.2.2.1⟩
theorem R.n34 (h : R σ τ) : ∃ N, N ≤ 60 ∧ cI σ 22 = nI N ∧ cI τ 34 = nI N := by
  obtain ⟨w, n, N, q, h1, h2, -⟩ := h
  exact ⟨N, h1.2.2.1, (h2.I 22 34 (by decide)).trans h1.2.2.2.2.2.2.1, h1.2.2.2.2.2.2.1⟩
theorem R.now (h : R σ τ) : ∃ w, w ≤ 99999 ∧ cI σ 11 = nI w ∧ cI τ 5 = nI w := by
  obtain ⟨w, n, N, q, h1, h2, -⟩ := h
  exact ⟨w, h1.1, (h2.I 11 5 (by decide)).trans h1.2.2.2.2.1, h1.2.2.2.2.1⟩
theorem R.same (h : R σ τ) (v : Int32) : Sim (some (v, σ)) (some (v, τ)) Rq := ⟨_, _, rfl, rfl, rfl, h⟩
/-- found, meets -/
theorem found_is (σ : St) {f : Nat} (hf : f < 6) {x : Int32} (hx : x = nI f) : c_found σ x = some (-3, sA (sI σ 0 x) 1 f (cA σ 1 f + 1)) := by
  subst hx
  unfold c_found
  rw [rdA_nI hf (by decide), B1_some, wrA_nI hf (by decide), B1_some]
  rfl
theorem meets_is (σ : St) {f : Nat} (hf : f < 6) {x : Int32} (hx : x = nI f) : m_meets σ x = some (-3, sA (sI σ 0 x) 1 f (cA σ 1 f + 1)) := by
  subst hx
  unfold m_meets
  rw [rdA_nI hf (by decide), B1_some, wrA_nI hf (by decide), B1_some]
  rfl
theorem R.found (h : R σ τ) {f : Nat} (x : Int32) : R (sA (sI σ 0 x) 1 f (cA σ 1 f + 1)) (sA (sI τ 0 x) 1 f (cA τ 1 f + 1)) := by
  refine h.chg (Req.wA (Req.wI h.eq (by decide) rfl) (by decide) (by rw [h.eq.A 1 1 (by decide)])) (fun k hk => ?_) (fun k => rfl) (fun k hk => ?_) (fun k hk => ?_)
  · rw [cI_sA, cI_sI, if_neg (fun q => by subst q; revert hk; decide)]
  · rw [cA_sA, if_neg (by omega)]; rfl
  · rw [cA_sA, if_neg (fun q => by subst q; revert hk; decide)]; rfl
theorem found_meets (h : R σ τ) {f : Nat} (hf : f < 6) {x : Int32} (hx : x = nI f) : Sim (c_found σ x) (m_meets τ x) Rq := by
  rw [found_is σ hf hx, meets_is τ hf hx]
  exact ⟨_, _, rfl, rfl, rfl, h.found x⟩
/-- the same, with the answers read and put together again -/
theorem found_meets2 (h : R σ τ) {f : Nat} (hf : f < 6) {x : Int32} (hx : x = nI f) : Sim (B2 (c_found σ x) fun v s => some (v, s)) (B2 (m_meets τ x) fun v s => some (v, s)) Rq := by
  rw [found_is σ hf hx, meets_is τ hf hx, B2_some, B2_some]
  exact ⟨_, _, rfl, rfl, rfl, h.found x⟩
theorem found_meets4 (h : R σ τ) {f : Nat} (hf : f < 6) {x : Int32} (hx : x = nI f) : Sim (B2 (B2 (c_found σ x) fun v s => some (s, v)) fun s v => some (v, s)) (B2 (B2 (m_meets τ x) fun v s => some (s, v)) fun s v => some (v, s)) Rq := by
  rw [found_is σ hf hx, meets_is τ hf hx, B2_some, B2_some, B2_some, B2_some]
  exact ⟨_, _, rfl, rfl, rfl, h.found x⟩
theorem found_meets1 (h : R σ τ) {f : Nat} (hf : f < 6) {x : Int32} (hx : x = nI f) : Sim (c_found σ x) (B2 (m_meets τ x) fun v s => some (v, s)) Rq := by
  rw [found_is σ hf hx, meets_is τ hf hx, B2_some]
  exact ⟨_, _, rfl, rfl, rfl, h.found x⟩
theorem R.say (h : R σ τ) {v w : Int32} (hv : v = w) : R (sI σ 2 v) (sI τ 2 w) := by
  refine h.chg (Req.wI h.eq (by decide) hv) (fun k hk => ?_) (fun k => rfl) (fun k hk => rfl) (fun k hk => rfl)
  rw [cI_sI, if_neg (fun q => by subst q; revert hk; decide)]
end Basic
