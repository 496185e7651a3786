/-! plain law: pool, the search for the cheapest way (no program in sight) -/
section Pool1
abbrev Dp := (Nat → Option Nat) × (Nat → Option Nat)
def ltO (a : Nat) : Option Nat → Bool
  | none => true
  | some b => decide (a < b)
def cfP (c : Nat → Nat → Option Nat) (i j : Nat) (d : Nat → Option Nat) : Option Nat := (c i j).bind fun w => (d i).map fun u => u + w
def crP (c : Nat → Nat → Option Nat) (x : Nat → Nat → Nat) (i j : Nat) (d : Nat → Option Nat) : Option Nat := if x i j = 0 then none else (c i j).bind fun w => (d (8 + j)).map fun u => u - w
def set1P (s : Dp) (v a t : Nat) : Dp := (fun y => if y = v then some t else s.1 y, fun y => if y = v then some a else s.2 y)
def rlxP (s : Dp × Bool) (a b : Nat) : Option Nat → Dp × Bool
  | none => s
  | some t => if ltO t (s.1.1 b) = true then (set1P s.1 b a t, true) else s
def st1P (c : Nat → Nat → Option Nat) (x : Nat → Nat → Nat) (k : Nat) (s : Dp × Bool) : Dp × Bool :=
  rlxP (rlxP s (k / 8) (8 + k % 8) (cfP c (k / 8) (k % 8) s.1.1)) (8 + k % 8) (k / 8) (crP c x (k / 8) (k % 8) (rlxP s (k / 8) (8 + k % 8) (cfP c (k / 8) (k % 8) s.1.1)).1.1)
def psP (c : Nat → Nat → Option Nat) (x : Nat → Nat → Nat) : Nat → Dp → Dp × Bool
  | 0, s => (s, false)
  | k + 1, s => st1P c x k (psP c x k s)
def Rn (p : Nat → Option Nat) : Nat → Nat → Prop
  | 0, v => p v = none
  | n + 1, v => ∃ u, p v = some u ∧ Rn p n u
theorem Rn.uniq {p : Nat → Option Nat} : ∀ {n m v : Nat}, Rn p n v → Rn p m v → n = m
  | 0, 0, _, _, _ => rfl
  | 0, m + 1, v, h, k => by
    obtain ⟨u, k1, -⟩ := k
    rw [show p v = none from h] at k1
    cases k1
  | n + 1, 0, v, h, k => by
    obtain ⟨u, k1, -⟩ := h
    rw [show p v = none from k] at k1
    cases k1
  | n + 1, m + 1, v, h, k => by
    obtain ⟨u, k1, k2⟩ := h
    obtain ⟨u', k1', k2'⟩ := k
    rw [k1] at k1'
    cases k1'
    rw [Rn.uniq k2 k2']
def smP (f : Nat → Nat) : Nat → Nat
  | 0 => 0
  | k + 1 => smP f k + f k
theorem sm_eq {f f' : Nat → Nat} : ∀ {k : Nat}, (∀ v, v < k → f' v = f v) → smP f' k = smP f k
  | 0, _ => rfl
  | k + 1, h => by rw [smP, smP, sm_eq (fun v hv => h v (by omega)), h k (by omega)]
theorem sm_upd {f f' : Nat → Nat} {b : Nat} (h : ∀ v, v ≠ b → f' v = f v) : ∀ {k : Nat}, b < k → smP f' k + f b = smP f k + f' b
  | 0, hk => absurd hk (Nat.not_lt_zero b)
  | k + 1, hk => by
    rw [smP, smP]
    by_cases q : b = k
    · subst q
      rw [sm_eq (fun v hv => h v (by omega))]
      omega
    · have := sm_upd h (k := k) (by omega)
      rw [h k (fun g => q g.symm)]
      omega
theorem sm_le {f : Nat → Nat} {B : Nat} (h : ∀ v, f v ≤ B) : ∀ k, smP f k ≤ B * k
  | 0 => Nat.zero_le _
  | k + 1 => by
    rw [smP, Nat.mul_add, Nat.mul_one]
    exact Nat.add_le_add (sm_le h k) (h k)
def cntP (d : Nat → Option Nat) : Nat := smP (fun v => if (d v).isSome = true then 1 else 0) 16
def mesP (d : Nat → Option Nat) : Nat := smP (fun v => (d v).getD 500000) 16
theorem cntP_le (d : Nat → Option Nat) : cntP d ≤ 16 := by
  refine Nat.le_trans (sm_le (B := 1) (fun v => ?_) 16) (by omega)
  by_cases q : (d v).isSome = true
  · rw [if_pos q]; exact Nat.le_refl _
  · rw [if_neg q]; omega
/-- the graph and its prices -/
def GrP (c : Nat → Nat → Option Nat) (x : Nat → Nat → Nat) (ov : Nat → Nat) (S T : Nat → Prop) (π : Nat → Nat) : Prop :=
  (∀ i j w, c i j = some w → w ≤ 28000) ∧ (∀ i j, i < 8 → j < 8 → 0 < x i j → S i ∧ T j ∧ ∃ w, c i j = some w ∧ π (8 + j) = π i + w) ∧ (∀ i j w, i < 8 → j < 8 → c i j = some w → π (8 + j) ≤ π i + w) ∧ (∀ i, i < 8 → 0 < ov i → S i ∧ π i = 0) ∧ ∀ i, S i → ¬ T i
theorem GrP.c28 {c : Nat → Nat → Option Nat} {x : Nat → Nat → Nat} {ov : Nat → Nat} {S T : Nat → Prop} {π : Nat → Nat} (h : GrP c x ov S T π) : ∀ i j w, c i j = some w → w ≤ 28000 := h.1
theorem GrP.xc {c : Nat → Nat → Option Nat} {x : Nat → Nat → Nat} {ov : Nat → Nat} {S T : Nat → Prop} {π : Nat → Nat} (h : GrP c x ov S T π) : ∀ i j, i < 8 → j < 8 → 0 < x i j → S i ∧ T j ∧ ∃ w, c i j = some w ∧ π (8 + j) = π i + w := h.2.1
theorem GrP.fw {c : Nat → Nat → Option Nat} {x : Nat → Nat → Nat} {ov : Nat → Nat} {S T : Nat → Prop} {π : Nat → Nat} (h : GrP c x ov S T π) : ∀ i j w, i < 8 → j < 8 → c i j = some w → π (8 + j) ≤ π i + w := h.2.2.1
theorem GrP.ov0 {c : Nat → Nat → Option Nat} {x : Nat → Nat → Nat} {ov : Nat → Nat} {S T : Nat → Prop} {π : Nat → Nat} (h : GrP c x ov S T π) : ∀ i, i < 8 → 0 < ov i → S i ∧ π i = 0 := h.2.2.2.1
theorem GrP.ST {c : Nat → Nat → Option Nat} {x : Nat → Nat → Nat} {ov : Nat → Nat} {S T : Nat → Prop} {π : Nat → Nat} (h : GrP c x ov S T π) : ∀ i, S i → ¬ T i := h.2.2.2.2
/-- a way from a to v that is still open, of which the price of v has been had -/
def EEP (c : Nat → Nat → Option Nat) (x : Nat → Nat → Nat) (a v u t : Nat) : Prop :=
  (∃ j w, j < 8 ∧ a < 8 ∧ v = 8 + j ∧ c a j = some w ∧ u + w ≤ t) ∨ (∃ j w, j < 8 ∧ v < 8 ∧ a = 8 + j ∧ 0 < x v j ∧ c v j = some w ∧ u ≤ t + w)
variable {c : Nat → Nat → Option Nat} {x : Nat → Nat → Nat} {ov : Nat → Nat} {S T : Nat → Prop} {π : Nat → Nat} {s : Dp}
theorem EEP.pot (g : GrP c x ov S T π) {a v u t : Nat} (h : EEP c x a v u t) : π v + u ≤ t + π a := by
  rcases h with ⟨j, w, h1, h2, rfl, h4, h5⟩ | ⟨j, w, h1, h2, rfl, h4, h5, h6⟩
  · have := g.fw a j w h2 h1 h4
    omega
  · obtain ⟨-, -, w', e1, e2⟩ := g.xc v j h2 h1 h4
    rw [h5] at e1
    cases e1
    omega
theorem EEP.lt {a v u t : Nat} (h : EEP c x a v u t) : a < 16 ∧ v < 16 ∧ a ≠ v := by
  rcases h with ⟨j, w, h1, h2, rfl, h4, h5⟩ | ⟨j, w, h1, h2, rfl, h4, h5, h6⟩ <;> omega
theorem EEP.mono {a v u t u' : Nat} (h : EEP c x a v u t) (hu : u' ≤ u) : EEP c x a v u' t := by
  rcases h with ⟨j, w, h1, h2, h3, h4, h5⟩ | ⟨j, w, h1, h2, h3, h4, h5, h6⟩
  · exact Or.inl ⟨j, w, h1, h2, h3, h4, by omega⟩
  · exact Or.inr ⟨j, w, h1, h2, h3, h4, h5, by omega⟩
def IvP (c : Nat → Nat → Option Nat) (x : Nat → Nat → Nat) (ov : Nat → Nat) (S : Nat → Prop) (π : Nat → Nat) (s : Dp) : Prop :=
  (∀ v u, s.1 v = some u → v < 16 ∧ π v ≤ u) ∧ (∀ v u, s.1 v = some u → u ≤ 28000 * cntP s.1) ∧ (∀ v a, s.2 v = some a → ∃ u t, s.1 a = some u ∧ s.1 v = some t ∧ EEP c x a v u t) ∧ (∀ v u, s.1 v = some u → s.2 v = none → v < 8 ∧ 0 < ov v ∧ u = 0) ∧ (∀ v, v < 8 → 0 < ov v → s.1 v = some 0 ∧ s.2 v = none) ∧ (∀ v u, s.1 v = some u → ∃ n, Rn s.2 n v) ∧ (∀ i u, i < 8 → s.1 i = some u → S i)
theorem IvP.lo (h : IvP c x ov S π s) : ∀ v u, s.1 v = some u → v < 16 ∧ π v ≤ u := h.1
theorem IvP.hi (h : IvP c x ov S π s) : ∀ v u, s.1 v = some u → u ≤ 28000 * cntP s.1 := h.2.1
theorem IvP.pa (h : IvP c x ov S π s) : ∀ v a, s.2 v = some a → ∃ u t, s.1 a = some u ∧ s.1 v = some t ∧ EEP c x a v u t := h.2.2.1
theorem IvP.rt (h : IvP c x ov S π s) : ∀ v u, s.1 v = some u → s.2 v = none → v < 8 ∧ 0 < ov v ∧ u = 0 := h.2.2.2.1
theorem IvP.so (h : IvP c x ov S π s) : ∀ v, v < 8 → 0 < ov v → s.1 v = some 0 ∧ s.2 v = none := h.2.2.2.2.1
theorem IvP.ch (h : IvP c x ov S π s) : ∀ v u, s.1 v = some u → ∃ n, Rn s.2 n v := h.2.2.2.2.2.1
theorem IvP.re (h : IvP c x ov S π s) : ∀ i u, i < 8 → s.1 i = some u → S i := h.2.2.2.2.2.2
theorem set1_at (s : Dp) (v a t : Nat) : (set1P s v a t).1 v = some t := if_pos rfl
theorem set1_ne (s : Dp) {v y : Nat} (a t : Nat) (h : y ≠ v) : (set1P s v a t).1 y = s.1 y := if_neg h
theorem set2_at (s : Dp) (v a t : Nat) : (set1P s v a t).2 v = some a := if_pos rfl
theorem set2_ne (s : Dp) {v y : Nat} (a t : Nat) (h : y ≠ v) : (set1P s v a t).2 y = s.2 y := if_neg h
theorem IvP.b44 (h : IvP c x ov S π s) {v u : Nat} (hv : s.1 v = some u) : u ≤ 448000 := by
  have h1 := h.hi v u hv
  have h2 := cntP_le s.1
  omega
theorem cnt_set (s : Dp) {b : Nat} (hb : b < 16) (a t : Nat) : cntP (set1P s b a t).1 = if (s.1 b).isSome = true then cntP s.1 else cntP s.1 + 1 := by
  have h := sm_upd (f := fun v => if (s.1 v).isSome = true then 1 else 0) (f' := fun v => if ((set1P s b a t).1 v).isSome = true then 1 else 0) (b := b) (fun v hv => by rw [set1_ne s a t hv]) (k := 16) hb
  rw [set1_at] at h
  unfold cntP
  by_cases q : (s.1 b).isSome = true
  · rw [if_pos q] at h ⊢
    rw [if_pos (show (some t).isSome = true from rfl)] at h
    omega
  · rw [if_neg q] at h ⊢
    rw [if_pos (show (some t).isSome = true from rfl)] at h
    omega
theorem IvP.rlxP (g : GrP c x ov S T π) (h : IvP c x ov S π s) {a b u t : Nat} (ha : s.1 a = some u) (he : EEP c x a b u t) (hle : t ≤ u + 28000) (hlt : ltO t (s.1 b) = true) : IvP c x ov S π (set1P s b a t) := by
  obtain ⟨la, lb, hab⟩ := he.lt
  have hp := he.pot g
  have hpa := (h.lo a u ha).2
  have hold : ∀ tb, s.1 b = some tb → t < tb := fun tb hb => by
    rw [hb] at hlt
    exact of_decide_eq_true hlt
  have hc := cnt_set s lb a t
  have hcge : cntP s.1 ≤ cntP (set1P s b a t).1 := by
    rw [hc]
    by_cases q : (s.1 b).isSome = true
    · rw [if_pos q]; exact Nat.le_refl _
    · rw [if_neg q]; omega
  have c1 : ∀ n y, s.1 y ≠ none → (∀ tb uy, s.1 b = some tb → s.1 y = some uy → uy + π b < tb + π y) → Rn s.2 n y → Rn (set1P s b a t).2 n y := by
    intro n
    induction n with
    | zero =>
      intro y hy hP hr
      have hne : y ≠ b := fun q => by
        subst q
        cases hs : s.1 y with
        | none => exact hy hs
        | some tb => have := hP tb tb hs hs; omega
      show (set1P s b a t).2 y = none
      rw [set2_ne s a t hne]
      exact hr
    | succ n ih =>
      intro y hy hP hr
      have hne : y ≠ b := fun q => by
        subst q
        cases hs : s.1 y with
        | none => exact hy hs
        | some tb => have := hP tb tb hs hs; omega
      obtain ⟨v, r1, r2⟩ := hr
      obtain ⟨uv, ty, p1, p2, p3⟩ := h.pa y v r1
      have hpo := p3.pot g
      refine ⟨v, by rw [set2_ne s a t hne]; exact r1, ih v (by rw [p1]; exact fun q => by cases q) (fun tb uy e1 e2 => ?_) r2⟩
      have := hP tb ty e1 p2
      rw [p1] at e2
      cases e2
      omega
  obtain ⟨na, hna⟩ := h.ch a u ha
  have hra : Rn (set1P s b a t).2 na a := c1 na a (by rw [ha]; exact fun q => by cases q) (fun tb uy e1 e2 => by
    have := hold tb e1
    rw [ha] at e2
    cases e2
    omega) hna
  have hrb : Rn (set1P s b a t).2 (na + 1) b := ⟨a, set2_at s b a t, hra⟩
  have c2 : ∀ n y, Rn s.2 n y → ∃ m, Rn (set1P s b a t).2 m y := by
    intro n
    induction n with
    | zero =>
      intro y hr
      by_cases q : y = b
      · rw [q]; exact ⟨_, hrb⟩
      · exact ⟨0, by show (set1P s b a t).2 y = none; rw [set2_ne s a t q]; exact hr⟩
    | succ n ih =>
      intro y hr
      by_cases q : y = b
      · rw [q]; exact ⟨_, hrb⟩
      · obtain ⟨v, r1, r2⟩ := hr
        obtain ⟨m, hm⟩ := ih v r2
        exact ⟨m + 1, v, by rw [set2_ne s a t q]; exact r1, hm⟩
  refine ⟨fun v w hv => ?_, fun v w hv => ?_, fun v a' hv => ?_, fun v w hv hn => ?_, fun v hv ho => ?_, fun v w hv => ?_, fun i w hi hv => ?_⟩
  · by_cases q : v = b
    · subst q
      rw [set1_at] at hv
      cases hv
      exact ⟨lb, by omega⟩
    · rw [set1_ne s a t q] at hv
      exact h.lo v w hv
  · by_cases q : v = b
    · subst q
      rw [set1_at] at hv
      cases hv
      cases hs : s.1 v with
      | none =>
        rw [hs] at hc
        rw [if_neg (show ¬ (none : Option Nat).isSome = true by decide)] at hc
        have := h.hi a u ha
        rw [hc]
        omega
      | some tb =>
        have h1 := hold tb hs
        have h2 := h.hi v tb hs
        have : 28000 * cntP s.1 ≤ 28000 * cntP (set1P s v a t).1 := Nat.mul_le_mul_left _ hcge
        omega
    · rw [set1_ne s a t q] at hv
      have h2 := h.hi v w hv
      exact Nat.le_trans h2 (Nat.mul_le_mul_left _ hcge)
  · by_cases q : v = b
    · subst q
      rw [set2_at] at hv
      cases hv
      exact ⟨u, t, by rw [set1_ne s a t hab]; exact ha, set1_at s v a t, he⟩
    · rw [set2_ne s a t q] at hv
      obtain ⟨u', t', p1, p2, p3⟩ := h.pa v a' hv
      by_cases q2 : a' = b
      · subst q2
        exact ⟨t, t', set1_at s a' a t, by rw [set1_ne s a t q]; exact p2, p3.mono (by have := hold u' p1; omega)⟩
      · exact ⟨u', t', by rw [set1_ne s a t q2]; exact p1, by rw [set1_ne s a t q]; exact p2, p3⟩
  · by_cases q : v = b
    · subst q
      rw [set2_at] at hn
      cases hn
    · rw [set1_ne s a t q] at hv
      rw [set2_ne s a t q] at hn
      exact h.rt v w hv hn
  · have hne : v ≠ b := fun q => by
      subst q
      have := hold 0 (h.so v hv ho).1
      omega
    rw [set1_ne s a t hne, set2_ne s a t hne]
    exact h.so v hv ho
  · by_cases q : v = b
    · rw [q]; exact ⟨_, hrb⟩
    · rw [set1_ne s a t q] at hv
      obtain ⟨n, hn⟩ := h.ch v w hv
      exact c2 n v hn
  · by_cases q : i = b
    · subst q
      rcases he with ⟨j, w', h1, h2, h3, h4, h5⟩ | ⟨j, w', h1, h2, h3, h4, h5, h6⟩
      · omega
      · exact (g.xc i j hi h1 h4).1
    · rw [set1_ne s a t q] at hv
      exact h.re i w hi hv
theorem mes_set (s : Dp) {b : Nat} (hb : b < 16) (a t : Nat) (ht : t < 500000) (hlt : ltO t (s.1 b) = true) : mesP (set1P s b a t).1 + 1 ≤ mesP s.1 := by
  have h := sm_upd (f := fun v => (s.1 v).getD 500000) (f' := fun v => ((set1P s b a t).1 v).getD 500000) (b := b) (fun v hv => by rw [set1_ne s a t hv]) (k := 16) hb
  rw [set1_at] at h
  unfold mesP
  cases hs : s.1 b with
  | none =>
    rw [hs] at h
    have h' : smP (fun v => ((set1P s b a t).1 v).getD 500000) 16 + 500000 = smP (fun v => (s.1 v).getD 500000) 16 + t := h
    omega
  | some tb =>
    rw [hs] at h hlt
    have h' : smP (fun v => ((set1P s b a t).1 v).getD 500000) 16 + tb = smP (fun v => (s.1 v).getD 500000) 16 + t := h
    have : t < tb := of_decide_eq_true hlt
    omega
theorem mes_le (h : IvP c x ov S π s) : mesP s.1 ≤ 8000000 := by
  refine Nat.le_trans (sm_le (B := 500000) (fun v => ?_) 16) (by omega)
  cases hs : s.1 v with
  | none => exact Nat.le_refl _
  | some u => have := h.b44 hs; show u ≤ 500000; omega
theorem cf_some {i j t : Nat} {d : Nat → Option Nat} (h : cfP c i j d = some t) : ∃ w u, c i j = some w ∧ d i = some u ∧ t = u + w := by
  unfold cfP at h
  cases hc : c i j with
  | none => rw [hc] at h; cases h
  | some w =>
    rw [hc] at h
    cases hd : d i with
    | none => rw [hd] at h; cases h
    | some u => rw [hd] at h; cases h; exact ⟨w, u, rfl, rfl, rfl⟩
theorem cr_some {i j t : Nat} {d : Nat → Option Nat} (h : crP c x i j d = some t) : ∃ w u, 0 < x i j ∧ c i j = some w ∧ d (8 + j) = some u ∧ t = u - w := by
  unfold crP at h
  by_cases hx : x i j = 0
  · rw [if_pos hx] at h; cases h
  · rw [if_neg hx] at h
    cases hc : c i j with
    | none => rw [hc] at h; cases h
    | some w =>
      rw [hc] at h
      cases hd : d (8 + j) with
      | none => rw [hd] at h; cases h
      | some u => rw [hd] at h; cases h; exact ⟨w, u, by omega, rfl, rfl, rfl⟩
/-- what one step keeps: the invariant, the measure; and no change if nothing was said -/
def KpP (c : Nat → Nat → Option Nat) (x : Nat → Nat → Nat) (ov : Nat → Nat) (S : Nat → Prop) (π : Nat → Nat) (s s' : Dp × Bool) : Prop :=
  IvP c x ov S π s'.1 ∧ mesP s'.1.1 + (if s'.2 = true then 1 else 0) ≤ mesP s.1.1 + (if s.2 = true then 1 else 0) ∧ (s'.2 = false → s' = s)
theorem KpP.refl {s : Dp × Bool} (h : IvP c x ov S π s.1) : KpP c x ov S π s s := ⟨h, Nat.le_refl _, fun _ => rfl⟩
theorem KpP.trans {s s' s2 : Dp × Bool} (h : KpP c x ov S π s s') (k : KpP c x ov S π s' s2) : KpP c x ov S π s s2 := ⟨k.1, Nat.le_trans k.2.1 h.2.1, fun q => by
  have e := k.2.2 q
  rw [e] at q ⊢
  exact h.2.2 q⟩
theorem rlx_kp (g : GrP c x ov S T π) {s : Dp × Bool} (h : IvP c x ov S π s.1) {a b : Nat} {o : Option Nat} (ho : ∀ t, o = some t → ∃ u, s.1.1 a = some u ∧ EEP c x a b u t ∧ t ≤ u + 28000) : KpP c x ov S π s (rlxP s a b o) := by
  cases o with
  | none => exact KpP.refl h
  | some t =>
    obtain ⟨u, h1, h2, h3⟩ := ho t rfl
    rw [rlxP]
    by_cases q : ltO t (s.1.1 b) = true
    · rw [if_pos q]
      have hi := h.rlxP g h1 h2 h3 q
      refine ⟨hi, ?_, fun q => by cases q⟩
      have := mes_set s.1 h2.lt.2.1 a t (by have := hi.b44 (set1_at s.1 b a t); omega) q
      show mesP (set1P s.1 b a t).1 + (if true = true then 1 else 0) ≤ _
      rw [if_pos rfl]
      omega
    · rw [if_neg q]
      exact KpP.refl h
theorem st1_kp (g : GrP c x ov S T π) {s : Dp × Bool} (h : IvP c x ov S π s.1) {k : Nat} (hk : k < 64) : KpP c x ov S π s (rlxP s (k / 8) (8 + k % 8) (cfP c (k / 8) (k % 8) s.1.1)) ∧ KpP c x ov S π s (st1P c x k s) := by
  have hi : k / 8 < 8 := by omega
  have hj : k % 8 < 8 := by omega
  have k1 : KpP c x ov S π s (rlxP s (k / 8) (8 + k % 8) (cfP c (k / 8) (k % 8) s.1.1)) := rlx_kp g h fun t ht => by
    obtain ⟨w, u, e1, e2, e3⟩ := cf_some ht
    have := g.c28 _ _ _ e1
    exact ⟨u, e2, Or.inl ⟨k % 8, w, hj, hi, rfl, e1, by omega⟩, by omega⟩
  refine ⟨k1, k1.trans (rlx_kp g k1.1 fun t ht => ?_)⟩
  obtain ⟨w, u, e0, e1, e2, e3⟩ := cr_some ht
  exact ⟨u, e2, Or.inr ⟨k % 8, w, hj, hi, rfl, e0, e1, by omega⟩, by omega⟩
theorem ps_kp (g : GrP c x ov S T π) (h : IvP c x ov S π s) : ∀ k, k ≤ 64 → KpP c x ov S π (s, false) (psP c x k s)
  | 0, _ => KpP.refl h
  | k + 1, hk => (ps_kp g h k (by omega)).trans (st1_kp g (ps_kp g h k (by omega)).1 (by omega)).2
/-- nothing left to mend -/
def FixP (c : Nat → Nat → Option Nat) (x : Nat → Nat → Nat) (s : Dp) : Prop :=
  (∀ i j w u, i < 8 → j < 8 → c i j = some w → s.1 i = some u → ∃ t, s.1 (8 + j) = some t ∧ t ≤ u + w) ∧
  ∀ i j w t, i < 8 → j < 8 → 0 < x i j → c i j = some w → s.1 (8 + j) = some t → ∃ u, s.1 i = some u ∧ u ≤ t - w
theorem ltO_f {t : Nat} {o : Option Nat} (h : ¬ ltO t o = true) : ∃ b, o = some b ∧ b ≤ t := by
  cases o with
  | none => exact absurd rfl h
  | some b =>
    refine ⟨b, rfl, ?_⟩
    by_cases q : t < b
    · exact absurd (decide_eq_true q) h
    · omega
theorem rlx_f {s : Dp × Bool} {a b : Nat} {o : Option Nat} (h : (rlxP s a b o).2 = false) : rlxP s a b o = s ∧ ∀ t, o = some t → ∃ u, s.1.1 b = some u ∧ u ≤ t := by
  cases o with
  | none => exact ⟨rfl, fun t ht => by cases ht⟩
  | some t =>
    rw [rlxP] at h ⊢
    by_cases q : ltO t (s.1.1 b) = true
    · rw [if_pos q] at h; cases h
    · rw [if_neg q]
      exact ⟨rfl, fun t' ht => by cases ht; exact ltO_f q⟩
theorem ps_fix : ∀ k, (psP c x k s).2 = false → psP c x k s = (s, false) ∧ ∀ k', k' < k → (∀ t, cfP c (k' / 8) (k' % 8) s.1 = some t → ∃ u, s.1 (8 + k' % 8) = some u ∧ u ≤ t) ∧ ∀ t, crP c x (k' / 8) (k' % 8) s.1 = some t → ∃ u, s.1 (k' / 8) = some u ∧ u ≤ t
  | 0, _ => ⟨rfl, fun k' hk => absurd hk (Nat.not_lt_zero k')⟩
  | k + 1, h => by
    obtain ⟨e2, f2⟩ := rlx_f (s := rlxP (psP c x k s) (k / 8) (8 + k % 8) (cfP c (k / 8) (k % 8) (psP c x k s).1.1)) (a := 8 + k % 8) (b := k / 8) (o := crP c x (k / 8) (k % 8) (rlxP (psP c x k s) (k / 8) (8 + k % 8) (cfP c (k / 8) (k % 8) (psP c x k s).1.1)).1.1) h
    have h1 : (rlxP (psP c x k s) (k / 8) (8 + k % 8) (cfP c (k / 8) (k % 8) (psP c x k s).1.1)).2 = false := by
      rw [← e2]
      exact h
    obtain ⟨e1, f1⟩ := rlx_f h1
    rw [e1] at h1 f2 e2
    obtain ⟨e0, f0⟩ := ps_fix k h1
    have e3 : psP c x (k + 1) s = psP c x k s := by
      show rlxP (rlxP (psP c x k s) (k / 8) (8 + k % 8) (cfP c (k / 8) (k % 8) (psP c x k s).1.1)) (8 + k % 8) (k / 8) (crP c x (k / 8) (k % 8) (rlxP (psP c x k s) (k / 8) (8 + k % 8) (cfP c (k / 8) (k % 8) (psP c x k s).1.1)).1.1) = _
      rw [e1]
      exact e2
    refine ⟨e3.trans e0, fun k' hk' => ?_⟩
    by_cases q : k' = k
    · subst q
      rw [e0] at f1 f2
      exact ⟨f1, f2⟩
    · exact f0 k' (by omega)
theorem fix_of (h : (psP c x 64 s).2 = false) : FixP c x s := by
  obtain ⟨-, f⟩ := ps_fix 64 h
  refine ⟨fun i j w u hi hj hc hu => ?_, fun i j w t hi hj hx hc ht => ?_⟩
  · have := (f (8 * i + j) (by omega)).1 (u + w)
    rw [show (8 * i + j) / 8 = i by omega, show (8 * i + j) % 8 = j by omega] at this
    exact this (by unfold cfP; rw [hc, hu]; rfl)
  · have := (f (8 * i + j) (by omega)).2 (t - w)
    rw [show (8 * i + j) / 8 = i by omega, show (8 * i + j) % 8 = j by omega] at this
    exact this (by unfold crP; rw [if_neg (by omega), hc, ht]; rfl)
end Pool1
