/-! plain law: earliest arrivals over eight yards -/
section EA
variable {e : Nat → Nat → Prop} {w : Nat → Nat → Nat → Nat} {a s : Nat} {D D2 : Nat → Option Nat}
/-- a way of n pieces from a at s that comes to y at t -/
def Pth (e : Nat → Nat → Prop) (w : Nat → Nat → Nat → Nat) (a s : Nat) : Nat → Nat → Nat → Prop
  | 0, y, t => y = a ∧ t = s
  | n + 1, y, t => ∃ x u, x < 8 ∧ Pth e w a s n x u ∧ e x y ∧ t = w x y u
def Snd (e : Nat → Nat → Prop) (w : Nat → Nat → Nat → Nat) (a s m : Nat) (D : Nat → Option Nat) : Prop := ∀ y t, y < 8 → D y = some t → ∃ n, n ≤ m ∧ Pth e w a s n y t
def Cls (e : Nat → Nat → Prop) (w : Nat → Nat → Nat → Nat) (a s : Nat) (D : Nat → Option Nat) : Prop := (∃ t, t ≤ s ∧ D a = some t) ∧ ∀ x y u, x < 8 → y < 8 → e x y → D x = some u → ∃ t, t ≤ w x y u ∧ D y = some t
def Mon (w : Nat → Nat → Nat → Nat) : Prop := ∀ x y u v, u ≤ v → w x y u ≤ w x y v
def IsEA (e : Nat → Nat → Prop) (w : Nat → Nat → Nat → Nat) (a s : Nat) (D : Nat → Option Nat) : Prop := Snd e w a s 8 D ∧ Cls e w a s D
theorem Cls.all (hm : Mon w) (hc : Cls e w a s D) : ∀ n y t, y < 8 → Pth e w a s n y t → ∃ t', t' ≤ t ∧ D y = some t' := by
  intro n
  induction n with
  | zero =>
    intro y t _ hp
    obtain ⟨rfl, rfl⟩ := hp
    exact hc.1
  | succ n ih =>
    intro y t hy hp
    obtain ⟨x, u, hx, hp, he, rfl⟩ := hp
    obtain ⟨u', h1, h2⟩ := ih x u hx hp
    obtain ⟨t', h3, h4⟩ := hc.2 x y u' hx hy he h2
    exact ⟨t', Nat.le_trans h3 (hm x y u' u h1), h4⟩
theorem IsEA.eq (hm : Mon w) (h : IsEA e w a s D) (hs : ∀ y t, y < 8 → D2 y = some t → ∃ n, Pth e w a s n y t) (hc : ∀ n y t, n ≤ 8 → y < 8 → Pth e w a s n y t → ∃ t', t' ≤ t ∧ D2 y = some t') : ∀ y, y < 8 → D2 y = D y := by
  intro y hy
  cases hd : D y with
  | none =>
    cases h2 : D2 y with
    | none => rfl
    | some t =>
      obtain ⟨n, hp⟩ := hs y t hy h2
      obtain ⟨t', -, h3⟩ := h.2.all hm n y t hy hp
      rw [hd] at h3
      cases h3
  | some t =>
    obtain ⟨n, hn, hp⟩ := h.1 y t hy hd
    obtain ⟨t', h1, h2⟩ := hc n y t hn hy hp
    obtain ⟨n2, hp2⟩ := hs y t' hy h2
    obtain ⟨t2, h3, h4⟩ := h.2.all hm n2 y t' hy hp2
    rw [hd] at h4
    cases h4
    rw [h2]
    exact congrArg some (Nat.le_antisymm h1 h3)
/-- how late one can be -/
theorem Pth.le {c : Nat} (hw : ∀ x y u, x < 8 → y < 8 → w x y u ≤ u + c) : ∀ n y t, y < 8 → Pth e w a s n y t → t ≤ s + n * c := by
  intro n
  induction n with
  | zero =>
    intro y t _ hp
    obtain ⟨-, rfl⟩ := hp
    omega
  | succ n ih =>
    intro y t hy hp
    obtain ⟨x, u, hx, hp, -, rfl⟩ := hp
    have h1 := ih x u hx hp
    have h2 := hw x y u hx hy
    rw [Nat.succ_mul]
    omega
theorem Pth.ge (hw : ∀ x y u, u ≤ w x y u) : ∀ n y t, Pth e w a s n y t → s ≤ t := by
  intro n
  induction n with
  | zero =>
    intro y t hp
    obtain ⟨-, rfl⟩ := hp
    omega
  | succ n ih =>
    intro y t hp
    obtain ⟨x, u, -, hp, -, rfl⟩ := hp
    exact Nat.le_trans (ih x u hp) (hw x y u)
/-! the nearest one first -/
/-- from b, come to at u, one goes on -/
noncomputable def rlx (e : Nat → Nat → Prop) (w : Nat → Nat → Nat → Nat) (b u : Nat) (D : Nat → Option Nat) (y : Nat) : Option Nat :=
  @ite _ (e b y) (Classical.propDecidable _) (match D y with
    | none => some (w b y u)
    | some t => if w b y u < t then some (w b y u) else some t) (D y)
def DjI (e : Nat → Nat → Prop) (w : Nat → Nat → Nat → Nat) (a s n : Nat) (D : Nat → Option Nat) (S : Nat → Bool) : Prop :=
  Snd e w a s n D ∧ (∀ x, x < 8 → S x = true → ∃ u, D x = some u ∧ ∀ y, y < 8 → e x y → ∃ t, t ≤ w x y u ∧ D y = some t) ∧
  (∀ x y u t, x < 8 → y < 8 → S x = true → S y = false → D x = some u → D y = some t → u ≤ t) ∧
  (List.range 8).countP S = n ∧ ∃ t, t ≤ s ∧ D a = some t
theorem rlx_le (b u : Nat) (D : Nat → Option Nat) {y t : Nat} (h : D y = some t) : ∃ t', t' ≤ t ∧ rlx e w b u D y = some t' := by
  unfold rlx
  split
  · rw [h]
    by_cases hc : w b y u < t
    · simp only [hc, if_true]; exact ⟨_, by omega, rfl⟩
    · simp only [hc, if_false]; exact ⟨_, by omega, rfl⟩
  · exact ⟨t, Nat.le_refl _, h⟩
theorem rlx_e (b u : Nat) (D : Nat → Option Nat) {y : Nat} (he : e b y) : ∃ t', t' ≤ w b y u ∧ rlx e w b u D y = some t' := by
  unfold rlx
  rw [if_pos he]
  cases h : D y with
  | none => exact ⟨_, Nat.le_refl _, rfl⟩
  | some t =>
    by_cases hc : w b y u < t
    · simp only [hc, if_true]; exact ⟨_, Nat.le_refl _, rfl⟩
    · simp only [hc, if_false]; exact ⟨_, by omega, rfl⟩
theorem rlx_inv (b u : Nat) (D : Nat → Option Nat) {y t : Nat} (h : rlx e w b u D y = some t) : D y = some t ∨ (e b y ∧ t = w b y u) := by
  unfold rlx at h
  split at h
  · rename_i he
    cases hd : D y with
    | none => rw [hd] at h; exact Or.inr ⟨he, (Option.some.inj h).symm⟩
    | some t' =>
      rw [hd] at h
      by_cases hc : w b y u < t'
      · simp only [hc, if_true] at h; exact Or.inr ⟨he, (Option.some.inj h).symm⟩
      · simp only [hc, if_false] at h; exact Or.inl h
  · exact Or.inl h
/-- what is come to no later stays -/
theorem rlx_keep (hx : ∀ x y u, u ≤ w x y u) {b u : Nat} {D : Nat → Option Nat} {y t : Nat} (h : D y = some t) (hl : t ≤ u) : rlx e w b u D y = some t := by
  unfold rlx
  split
  · have hc : ¬ w b y u < t := by have := hx b y u; omega
    simp only [h, hc, if_false]
  · exact h
theorem cnt_lt {S : Nat → Bool} {b : Nat} (hb : b < 8) (h : S b = false) : (List.range 8).countP S < 8 := by
  have h1 : (List.range 8).countP S ≤ (List.range 8).length := List.countP_le_length
  have h2 : (List.range 8).countP S ≠ (List.range 8).length := fun q => by
    have := (List.countP_eq_length.mp q) b (List.mem_range.mpr hb)
    rw [h] at this
    cases this
  have h3 : (List.range 8).length = 8 := List.length_range
  omega
theorem cnt_all {S : Nat → Bool} (h : (List.range 8).countP S = 8) : ∀ b, b < 8 → S b = true := fun b hb => by
  cases hs : S b with
  | true => rfl
  | false => have := cnt_lt hb hs; omega
theorem cntN {S : Nat → Bool} {b : Nat} : ∀ n, (h : S b = false) → (List.range n).countP (fun y => S y || y == b) = (List.range n).countP S + (if b < n then 1 else 0) := by
  intro n h
  induction n with
  | zero => rfl
  | succ n ih =>
    rw [List.range_succ, List.countP_append, List.countP_append, ih]
    by_cases hn : n = b
    · subst hn
      simp [h]
    · have e1 : (n == b) = false := by simpa using hn
      simp only [List.countP_cons, List.countP_nil, e1, Bool.or_false]
      by_cases hb : b < n
      · have h2 : b < n + 1 := by omega
        simp only [hb, h2, if_true]; omega
      · have h2 : ¬ b < n + 1 := by omega
        simp only [hb, h2, if_false]; omega
theorem DjI.next (hx : ∀ x y u, u ≤ w x y u) {n b u : Nat} {S : Nat → Bool} (h : DjI e w a s n D S) (hb : b < 8) (hS : S b = false) (hD : D b = some u) (hmin : ∀ y t, y < 8 → S y = false → D y = some t → u ≤ t) : DjI e w a s (n + 1) (rlx e w b u D) (fun y => S y || y == b) := by
  obtain ⟨h1, h2, h3, h4, h5⟩ := h
  have hDb : rlx e w b u D b = some u := rlx_keep hx hD (Nat.le_refl _)
  have hkeep : ∀ x, x < 8 → S x = true → rlx e w b u D x = D x := fun x hx8 hSx => by
    obtain ⟨v, hv, -⟩ := h2 x hx8 hSx
    rw [hv]
    exact rlx_keep hx hv (h3 x b v u hx8 hb hSx hS hv hD)
  refine ⟨fun y t hy ht => ?_, fun x hx8 hSx => ?_, fun x y p q hx8 hy8 hSx hSy hp hq => ?_, ?_, ?_⟩
  · rcases rlx_inv b u D ht with h | ⟨he, rfl⟩
    · obtain ⟨m, hm, hp⟩ := h1 y t hy h
      exact ⟨m, by omega, hp⟩
    · obtain ⟨m, hm, hp⟩ := h1 b u hb hD
      exact ⟨m + 1, by omega, b, u, hb, hp, he, rfl⟩
  · by_cases hxb : x = b
    · subst hxb
      exact ⟨u, hDb, fun y hy he => rlx_e x u D he⟩
    · have hSx' : S x = true := by simpa [hxb] using hSx
      obtain ⟨v, hv, hvy⟩ := h2 x hx8 hSx'
      refine ⟨v, by rw [hkeep x hx8 hSx']; exact hv, fun y hy he => ?_⟩
      obtain ⟨t, ht, hDy⟩ := hvy y hy he
      obtain ⟨t', ht', hr⟩ := rlx_le (e := e) (w := w) b u D hDy
      exact ⟨t', by omega, hr⟩
  · have hyb : y ≠ b := fun q => by simp [q] at hSy
    have hSy' : S y = false := by simpa [hyb] using hSy
    have hpu : p ≤ u := by
      by_cases hxb : x = b
      · subst hxb
        rw [hDb] at hp
        cases hp
        exact Nat.le_refl _
      · have hSx' : S x = true := by simpa [hxb] using hSx
        rw [hkeep x hx8 hSx'] at hp
        exact h3 x b p u hx8 hb hSx' hS hp hD
    rcases rlx_inv b u D hq with h | ⟨-, rfl⟩
    · exact Nat.le_trans hpu (hmin y q hy8 hSy' h)
    · exact Nat.le_trans hpu (hx b y u)
  · rw [cntN 8 hS, h4, if_pos hb]
  · obtain ⟨t, ht, hDa⟩ := h5
    obtain ⟨t', ht', hr⟩ := rlx_le (e := e) (w := w) b u D hDa
    exact ⟨t', by omega, hr⟩
theorem DjI.done {n : Nat} {S : Nat → Bool} (h : DjI e w a s n D S) (hn : n ≤ 8) (hd : ∀ y t, y < 8 → S y = false → D y ≠ some t) : IsEA e w a s D := by
  obtain ⟨h1, h2, h3, h4, h5⟩ := h
  refine ⟨fun y t hy ht => ?_, h5, fun x y u hx8 hy8 he hD => ?_⟩
  · obtain ⟨m, hm, hp⟩ := h1 y t hy ht
    exact ⟨m, by omega, hp⟩
  · cases hS : S x with
    | false => exact absurd hD (hd x u hx8 hS)
    | true =>
      obtain ⟨v, hv, hvy⟩ := h2 x hx8 hS
      rw [hD] at hv
      cases hv
      exact hvy y hy8 he
theorem DjI.start (ha : a < 8) : DjI e w a s 0 (fun y => if y = a then some s else none) (fun _ => false) := by
  refine ⟨fun y t hy ht => ?_, fun x hx8 hSx => (nomatch (show false = true from hSx)), fun x y u t _ _ hSx => (nomatch (show false = true from hSx)), ?_, s, Nat.le_refl _, by dsimp only; rw [if_pos rfl]⟩
  · dsimp only at ht
    by_cases h : y = a
    · rw [if_pos h] at ht
      cases ht
      exact ⟨0, Nat.le_refl _, h, rfl⟩
    · rw [if_neg h] at ht
      cases ht
  · simp
end EA
