/-! the state as functions, binds, loops: pure -/
abbrev St : Type := (Nat → Int32) × (Nat → Int64) × (Nat → Nat → Int32) × (Nat → Nat → Int64) × (Nat → Option Nat)
def cI (σ : St) (k : Nat) : Int32 := σ.1 k
def cJ (σ : St) (k : Nat) : Int64 := σ.2.1 k
def cA (σ : St) (k : Nat) : Nat → Int32 := σ.2.2.1 k
def cB (σ : St) (k : Nat) : Nat → Int64 := σ.2.2.2.1 k
def cL (σ : St) (k : Nat) : Option Nat := σ.2.2.2.2 k
def sI (σ : St) (k : Nat) (v : Int32) : St := (va_up σ.1 k v, σ.2)
def sJ (σ : St) (k : Nat) (v : Int64) : St := (σ.1, va_up σ.2.1 k v, σ.2.2)
def sAr (σ : St) (k : Nat) (f : Nat → Int32) : St := (σ.1, σ.2.1, va_up σ.2.2.1 k f, σ.2.2.2)
def sA (σ : St) (k i : Nat) (v : Int32) : St := sAr σ k (upd (cA σ k) i v)
def sB (σ : St) (k i : Nat) (v : Int64) : St := (σ.1, σ.2.1, σ.2.2.1, va_up σ.2.2.2.1 k (vp_updL (cB σ k) i v), σ.2.2.2.2)
def sL (σ : St) (k : Nat) (n : Option Nat) : St := (σ.1, σ.2.1, σ.2.2.1, σ.2.2.2.1, va_up σ.2.2.2.2 k n)
theorem cI_sI (σ : St) (k : Nat) (v : Int32) (j : Nat) : cI (sI σ k v) j = if j = k then v else cI σ j := rfl
theorem cI_sJ (σ : St) (k : Nat) (v : Int64) (j : Nat) : cI (sJ σ k v) j = cI σ j := rfl
theorem cI_sA (σ : St) (k i : Nat) (v : Int32) (j : Nat) : cI (sA σ k i v) j = cI σ j := rfl
theorem cI_sAr (σ : St) (k : Nat) (f : Nat → Int32) (j : Nat) : cI (sAr σ k f) j = cI σ j := rfl
theorem cI_sB (σ : St) (k i : Nat) (v : Int64) (j : Nat) : cI (sB σ k i v) j = cI σ j := rfl
theorem cI_sL (σ : St) (k : Nat) (n : Option Nat) (j : Nat) : cI (sL σ k n) j = cI σ j := rfl
theorem cJ_sI (σ : St) (k : Nat) (v : Int32) (j : Nat) : cJ (sI σ k v) j = cJ σ j := rfl
theorem cJ_sJ (σ : St) (k : Nat) (v : Int64) (j : Nat) : cJ (sJ σ k v) j = if j = k then v else cJ σ j := rfl
theorem cJ_sA (σ : St) (k i : Nat) (v : Int32) (j : Nat) : cJ (sA σ k i v) j = cJ σ j := rfl
theorem cJ_sAr (σ : St) (k : Nat) (f : Nat → Int32) (j : Nat) : cJ (sAr σ k f) j = cJ σ j := rfl
theorem cJ_sB (σ : St) (k i : Nat) (v : Int64) (j : Nat) : cJ (sB σ k i v) j = cJ σ j := rfl
theorem cJ_sL (σ : St) (k : Nat) (n : Option Nat) (j : Nat) : cJ (sL σ k n) j = cJ σ j := rfl
theorem cA_sI (σ : St) (k : Nat) (v : Int32) (j : Nat) : cA (sI σ k v) j = cA σ j := rfl
theorem cA_sJ (σ : St) (k : Nat) (v : Int64) (j : Nat) : cA (sJ σ k v) j = cA σ j := rfl
theorem cA_sAr (σ : St) (k : Nat) (f : Nat → Int32) (j : Nat) : cA (sAr σ k f) j = if j = k then f else cA σ j := rfl
theorem cA_sA (σ : St) (k i : Nat) (v : Int32) (j : Nat) : cA (sA σ k i v) j = if j = k then upd (cA σ k) i v else cA σ j := rfl
theorem cA_sB (σ : St) (k i : Nat) (v : Int64) (j : Nat) : cA (sB σ k i v) j = cA σ j := rfl
theorem cA_sL (σ : St) (k : Nat) (n : Option Nat) (j : Nat) : cA (sL σ k n) j = cA σ j := rfl
theorem cB_sI (σ : St) (k : Nat) (v : Int32) (j : Nat) : cB (sI σ k v) j = cB σ j := rfl
theorem cB_sJ (σ : St) (k : Nat) (v : Int64) (j : Nat) : cB (sJ σ k v) j = cB σ j := rfl
theorem cB_sA (σ : St) (k i : Nat) (v : Int32) (j : Nat) : cB (sA σ k i v) j = cB σ j := rfl
theorem cB_sAr (σ : St) (k : Nat) (f : Nat → Int32) (j : Nat) : cB (sAr σ k f) j = cB σ j := rfl
theorem cB_sB (σ : St) (k i : Nat) (v : Int64) (j : Nat) : cB (sB σ k i v) j = if j = k then vp_updL (cB σ k) i v else cB σ j := rfl
theorem cB_sL (σ : St) (k : Nat) (n : Option Nat) (j : Nat) : cB (sL σ k n) j = cB σ j := rfl
theorem cL_sI (σ : St) (k : Nat) (v : Int32) (j : Nat) : cL (sI σ k v) j = cL σ j := rfl
theorem cL_sJ (σ : St) (k : Nat) (v : Int64) (j : Nat) : cL (sJ σ k v) j = cL σ j := rfl
theorem cL_sA (σ : St) (k i : Nat) (v : Int32) (j : Nat) : cL (sA σ k i v) j = cL σ j := rfl
theorem cL_sAr (σ : St) (k : Nat) (f : Nat → Int32) (j : Nat) : cL (sAr σ k f) j = cL σ j := rfl
theorem cL_sB (σ : St) (k i : Nat) (v : Int64) (j : Nat) : cL (sB σ k i v) j = cL σ j := rfl
theorem cL_sL (σ : St) (k : Nat) (n : Option Nat) (j : Nat) : cL (sL σ k n) j = if j = k then n else cL σ j := rfl
/-- reading and writing an array of n places -/
def rdA (n : Nat) (σ : St) (k : Nat) (i : Int32) : Option Int32 := if i < 0 ∨ n ≤ i.toNatClampNeg then none else some (cA σ k i.toNatClampNeg)
def rdB (n : Nat) (σ : St) (k : Nat) (i : Int32) : Option Int64 := if i < 0 ∨ n ≤ i.toNatClampNeg then none else some (cB σ k i.toNatClampNeg)
def wrA (n : Nat) (σ : St) (k : Nat) (i v : Int32) : Option St := if i < 0 ∨ n ≤ i.toNatClampNeg then none else some (sA σ k i.toNatClampNeg v)
def wrB (n : Nat) (σ : St) (k : Nat) (i : Int32) (v : Int64) : Option St := if i < 0 ∨ n ≤ i.toNatClampNeg then none else some (sB σ k i.toNatClampNeg v)
/-- the same of an array that is not there always -/
def rdD (σ : St) (k : Nat) (i : Int32) : Option Int32 := (cL σ k).bind fun n => rdA n σ k i
def wrD (σ : St) (k : Nat) (i v : Int32) : Option St := (cL σ k).bind fun n => wrA n σ k i v
/-- an int that is a boolean -/
def bZ (x : Int32) : Option Int32 := if x = 0 ∨ x = 1 then some x else none
/-- a divisor -/
def nz (x : Int32) : Option Int32 := if x = 0 then none else some x
def nzL (x : Int64) : Option Int64 := if x = 0 then none else some x
theorem rdA_in {n : Nat} {σ : St} {k : Nat} {i v : Int32} (h : rdA n σ k i = some v) : vp_in i n ∧ v = cA σ k i.toNatClampNeg := by
  unfold rdA at h
  split at h
  · cases h
  · exact ⟨‹_›, (Option.some.inj h).symm⟩
theorem rdB_in {n : Nat} {σ : St} {k : Nat} {i : Int32} {v : Int64} (h : rdB n σ k i = some v) : vp_in i n ∧ v = cB σ k i.toNatClampNeg := by
  unfold rdB at h
  split at h
  · cases h
  · exact ⟨‹_›, (Option.some.inj h).symm⟩
theorem wrA_in {n : Nat} {σ σ1 : St} {k : Nat} {i v : Int32} (h : wrA n σ k i v = some σ1) : vp_in i n ∧ σ1 = sA σ k i.toNatClampNeg v := by
  unfold wrA at h
  split at h
  · cases h
  · exact ⟨‹_›, (Option.some.inj h).symm⟩
theorem wrB_in {n : Nat} {σ σ1 : St} {k : Nat} {i : Int32} {v : Int64} (h : wrB n σ k i v = some σ1) : vp_in i n ∧ σ1 = sB σ k i.toNatClampNeg v := by
  unfold wrB at h
  split at h
  · cases h
  · exact ⟨‹_›, (Option.some.inj h).symm⟩
theorem rdD_in {σ : St} {k : Nat} {i v : Int32} (h : rdD σ k i = some v) : ∃ n, cL σ k = some n ∧ rdA n σ k i = some v := by
  unfold rdD at h
  cases hc : cL σ k with
  | none => rw [hc] at h; cases h
  | some n => rw [hc] at h; exact ⟨n, rfl, h⟩
theorem wrD_in {σ σ1 : St} {k : Nat} {i v : Int32} (h : wrD σ k i v = some σ1) : ∃ n, cL σ k = some n ∧ wrA n σ k i v = some σ1 := by
  unfold wrD at h
  cases hc : cL σ k with
  | none => rw [hc] at h; cases h
  | some n => rw [hc] at h; exact ⟨n, rfl, h⟩
theorem bZ_in {x y : Int32} (h : bZ x = some y) : x = y ∧ (x = 0 ∨ x = 1) := by
  unfold bZ at h
  split at h
  · exact ⟨Option.some.inj h, ‹_›⟩
  · cases h
theorem nz_in {x y : Int32} (h : nz x = some y) : x = y ∧ ¬ x = 0 := by
  unfold nz at h
  split at h
  · cases h
  · exact ⟨Option.some.inj h, ‹_›⟩
theorem nzL_in {x y : Int64} (h : nzL x = some y) : x = y ∧ ¬ x = 0 := by
  unfold nzL at h
  split at h
  · cases h
  · exact ⟨Option.some.inj h, ‹_›⟩
theorem rdA_nI {n : Nat} {σ : St} {k j : Nat} (h : j < n) (hn : n < 2 ^ 31) : rdA n σ k (nI j) = some (cA σ k j) := by
  unfold rdA
  rw [if_neg (nI_in h hn), nI_clamp (by omega)]
theorem rdB_nI {n : Nat} {σ : St} {k j : Nat} (h : j < n) (hn : n < 2 ^ 31) : rdB n σ k (nI j) = some (cB σ k j) := by
  unfold rdB
  rw [if_neg (nI_in h hn), nI_clamp (by omega)]
theorem wrA_nI {n : Nat} {σ : St} {k j : Nat} {v : Int32} (h : j < n) (hn : n < 2 ^ 31) : wrA n σ k (nI j) v = some (sA σ k j v) := by
  unfold wrA
  rw [if_neg (nI_in h hn), nI_clamp (by omega)]
theorem wrB_nI {n : Nat} {σ : St} {k j : Nat} {v : Int64} (h : j < n) (hn : n < 2 ^ 31) : wrB n σ k (nI j) v = some (sB σ k j v) := by
  unfold wrB
  rw [if_neg (nI_in h hn), nI_clamp (by omega)]
theorem rdD_nI {n : Nat} {σ : St} {k j : Nat} (hc : cL σ k = some n) (h : j < n) (hn : n < 2 ^ 31) : rdD σ k (nI j) = some (cA σ k j) := by
  unfold rdD
  rw [hc]
  exact rdA_nI h hn
theorem wrD_nI {n : Nat} {σ : St} {k j : Nat} {v : Int32} (hc : cL σ k = some n) (h : j < n) (hn : n < 2 ^ 31) : wrD σ k (nI j) v = some (sA σ k j v) := by
  unfold wrD
  rw [hc]
  exact wrA_nI h hn
theorem nz_ok {x : Int32} (h : ¬ x = 0) : nz x = some x := if_neg h
theorem nzL_ok {x : Int64} (h : ¬ x = 0) : nzL x = some x := if_neg h
theorem it_t {α : Type} {c : Prop} [Decidable c] {a b r : α} (hc : c) (h : (if c then a else b) = r) : a = r := by rw [if_pos hc] at h; exact h
theorem it_f {α : Type} {c : Prop} [Decidable c] {a b r : α} (hc : ¬ c) (h : (if c then a else b) = r) : b = r := by rw [if_neg hc] at h; exact h
theorem inj1 {α : Type} {a b : α} (h : some a = some b) : a = b := Option.some.inj h
/-- the loop: a step goes on (inl) or leaves (inr) -/
def lpf {S E : Type} (step : S → Option (S ⊕ E)) : Nat → S → Option E
  | 0, _ => none
  | n + 1, s => (step s).bind fun q => match q with
    | .inl s' => lpf step n s'
    | .inr e => some e
noncomputable def lp {S E : Type} (step : S → Option (S ⊕ E)) (s : S) : Option E :=
  @dite (Option E) (∃ n, (lpf step n s).isSome = true) (Classical.propDecidable _) (fun h => lpf step (Classical.choose h) s) (fun _ => none)
theorem lpf_more {S E : Type} {step : S → Option (S ⊕ E)} {e : E} : ∀ {n : Nat} {s : S}, lpf step n s = some e → ∀ k, lpf step (n + k) s = some e
  | 0, s, h, _ => by cases h
  | n + 1, s, h, k => by
    rw [show n + 1 + k = (n + k) + 1 by omega]
    rw [lpf] at h ⊢
    cases hs : step s with
    | none => rw [hs] at h; cases h
    | some q =>
      rw [hs] at h
      cases q with
      | inl s' => exact lpf_more (n := n) h k
      | inr e' => exact h
theorem lpf_det {S E : Type} {step : S → Option (S ⊕ E)} {e e' : E} {n k : Nat} {s : S} (h : lpf step n s = some e) (h' : lpf step k s = some e') : e = e' := by
  have h1 := lpf_more h k
  have h2 := lpf_more h' n
  rw [Nat.add_comm] at h2
  exact Option.some.inj (h1.symm.trans h2)
theorem lp_ex {S E : Type} {step : S → Option (S ⊕ E)} {s : S} {e : E} (h : lp step s = some e) : ∃ n, lpf step n s = some e := by
  unfold lp at h
  split at h
  · exact ⟨_, h⟩
  · cases h
theorem lp_of {S E : Type} {step : S → Option (S ⊕ E)} {s : S} {e : E} {n : Nat} (h : lpf step n s = some e) : lp step s = some e := by
  have hex : ∃ n, (lpf step n s).isSome = true := ⟨n, by rw [h]; rfl⟩
  unfold lp
  rw [dif_pos hex]
  have h2 := Classical.choose_spec hex
  cases hq : lpf step (Classical.choose hex) s with
  | none => rw [hq] at h2; cases h2
  | some e' => rw [lpf_det h hq]
theorem lpf_go {S E : Type} {step : S → Option (S ⊕ E)} {s s' : S} {n : Nat} (h : step s = some (.inl s')) : lpf step (n + 1) s = lpf step n s' := by rw [lpf, h]; rfl
theorem lpf_end {S E : Type} {step : S → Option (S ⊕ E)} {s : S} {e : E} {n : Nat} (h : step s = some (.inr e)) : lpf step (n + 1) s = some e := by rw [lpf, h]; rfl
theorem lp_go {S E : Type} {step : S → Option (S ⊕ E)} {s s' : S} (h : step s = some (.inl s')) : lp step s = lp step s' := by
  cases hr : lp step s' with
  | some e =>
    obtain ⟨n, hn⟩ := lp_ex hr
    exact lp_of (n := n + 1) (by rw [lpf_go h]; exact hn)
  | none =>
    cases hs : lp step s with
    | none => rfl
    | some e =>
      obtain ⟨n, hn⟩ := lp_ex hs
      cases n with
      | zero => cases hn
      | succ n =>
        rw [lpf_go h] at hn
        rw [lp_of hn] at hr
        cases hr
theorem lp_end {S E : Type} {step : S → Option (S ⊕ E)} {s : S} {e : E} (h : step s = some (.inr e)) : lp step s = some e := lp_of (n := 1) (lpf_end h)
/-- the loop by an invariant and a measure -/
theorem lp_inv {S E : Type} {step : S → Option (S ⊕ E)} (I : S → Prop) (μ : S → Nat) (Q : E → Prop) (hs : ∀ s, I s → (∃ s', step s = some (.inl s') ∧ I s' ∧ μ s' < μ s) ∨ ∃ e, step s = some (.inr e) ∧ Q e) : ∀ s, I s → ∃ e, lp step s = some e ∧ Q e := by
  have key : ∀ (n : Nat) (s : S), I s → μ s < n → ∃ e, lp step s = some e ∧ Q e := by
    intro n
    induction n with
    | zero => intro s _ h; omega
    | succ n ih =>
      intro s hI hm
      rcases hs s hI with ⟨s', h1, h2, h3⟩ | ⟨e, h1, h2⟩
      · obtain ⟨e, a, b⟩ := ih s' h2 (by omega)
        exact ⟨e, by rw [lp_go h1]; exact a, b⟩
      · exact ⟨e, lp_end h1, h2⟩
  exact fun s h => key _ s h (Nat.lt_succ_self _)
/-- the loop over a counter: state f i at round i, leaving at round n -/
theorem lp_for {S E : Type} {step : S → Option (S ⊕ E)} (f : Nat → S) (n : Nat) (e : E) (hs : ∀ i, i < n → step (f i) = some (.inl (f (i + 1)))) (he : step (f n) = some (.inr e)) : lp step (f 0) = some e := by
  have key : ∀ k, k ≤ n → lp step (f (n - k)) = some e := by
    intro k
    induction k with
    | zero => intro _; exact lp_end he
    | succ k ih =>
      intro h
      have h1 := hs (n - (k + 1)) (by omega)
      rw [lp_go h1, show n - (k + 1) + 1 = n - k by omega]
      exact ih (by omega)
  have h := key n (Nat.le_refl n)
  rw [Nat.sub_self] at h
  exact h
def B1 {α1 γ : Type} (x : Option (α1)) (f : α1 → Option γ) : Option γ := x.bind fun q => f q
theorem B1_some {α1 γ : Type} (a1 : α1) (f : α1 → Option γ) : B1 (some a1) f = f a1 := rfl
theorem B1_none {α1 γ : Type} (f : α1 → Option γ) : B1 none f = none := rfl
theorem b1 {α1 γ : Type} {x : Option (α1)} {f : α1 → Option γ} {y : γ} (h : B1 x f = some y) : ∃ a1, x = some a1 ∧ f a1 = some y := by
  cases hx : x with
  | none => rw [hx] at h; cases h
  | some q => rw [hx] at h; exact ⟨q, rfl, h⟩
def BR1 {α1 ρ γ : Type} (x : Option ((α1) ⊕ ρ)) (f : α1 → Option γ) (g : ρ → Option γ) : Option γ := x.bind fun w => match w with
  | .inl q => f q
  | .inr r => g r
theorem BR1_l {α1 ρ γ : Type} (a1 : α1) (f : α1 → Option γ) (g : ρ → Option γ) : BR1 (some (.inl a1)) f g = f a1 := rfl
theorem BR1_r {α1 ρ γ : Type} (r : ρ) (f : α1 → Option γ) (g : ρ → Option γ) : BR1 (some (.inr r)) f g = g r := rfl
theorem bR1 {α1 ρ γ : Type} {x : Option ((α1) ⊕ ρ)} {f : α1 → Option γ} {g : ρ → Option γ} {y : γ} (h : BR1 x f g = some y) : ∃ q, x = some q ∧ ((∃ a1, q = .inl a1 ∧ f a1 = some y) ∨ ∃ r, q = .inr r ∧ g r = some y) := by
  cases hx : x with
  | none => rw [hx] at h; cases h
  | some w =>
    rw [hx] at h
    cases w with
    | inl q => exact ⟨_, rfl, Or.inl ⟨q, rfl, h⟩⟩
    | inr r => exact ⟨_, rfl, Or.inr ⟨r, rfl, h⟩⟩
theorem pr1 {α1 : Type} {a1 b1 : α1} (h : a1 = b1) : a1 = b1 := h
def lpf1 {α1 E : Type} (step : α1 → Option ((α1) ⊕ E)) (n : Nat) (a1 : α1) : Option E := lpf (fun q => step q) n a1
noncomputable def lq1 {α1 E : Type} (step : α1 → Option ((α1) ⊕ E)) (a1 : α1) : Option E := lp (fun q => step q) a1
theorem lq1_ex {α1 E : Type} {step : α1 → Option ((α1) ⊕ E)} {a1 : α1} {e : E} (h : lq1 step a1 = some e) : ∃ n, lpf1 step n a1 = some e := lp_ex h
theorem lpf1_0 {α1 E : Type} {step : α1 → Option ((α1) ⊕ E)} {a1 : α1} {e : E} (h : lpf1 step 0 a1 = some e) : False := by cases h
theorem lpf1_s {α1 E : Type} {step : α1 → Option ((α1) ⊕ E)} {n : Nat} {a1 : α1} {e : E} (h : lpf1 step (n + 1) a1 = some e) : ∃ q, step a1 = some q ∧ ((∃ b1, q = .inl b1 ∧ lpf1 step n b1 = some e) ∨ q = .inr e) := by
  unfold lpf1 at h
  rw [lpf] at h
  cases hs : step a1 with
  | none => rw [hs] at h; cases h
  | some q =>
    rw [hs] at h
    cases q with
    | inl w => exact ⟨_, rfl, Or.inl ⟨w, rfl, h⟩⟩
    | inr e1 => exact ⟨_, rfl, Or.inr (by rw [Option.some.inj h])⟩
theorem lpc1 {α1 E : Type} {step : α1 → Option ((α1) ⊕ E)} {n : Nat} {a1 : α1} {q : (α1) ⊕ E} {e : E} (h : some (Sum.inl a1) = some q) (hq : (∃ b1, q = .inl b1 ∧ lpf1 step n b1 = some e) ∨ q = .inr e) : lpf1 step n a1 = some e := by
  cases h
  rcases hq with ⟨b1, h1, h2⟩ | h1
  · cases h1; exact h2
  · cases h1
theorem lpx1 {α1 E : Type} {step : α1 → Option ((α1) ⊕ E)} {n : Nat} {q : (α1) ⊕ E} {e e1 : E} (h : some (Sum.inr e1) = some q) (hq : (∃ b1, q = .inl b1 ∧ lpf1 step n b1 = some e) ∨ q = .inr e) : e1 = e := by
  cases h
  rcases hq with ⟨b1, h1, h2⟩ | h1
  · cases h1
  · cases h1; rfl
def B2 {α1 α2 γ : Type} (x : Option (α1 × α2)) (f : α1 → α2 → Option γ) : Option γ := x.bind fun q => f q.1 q.2
theorem B2_some {α1 α2 γ : Type} (a1 : α1) (a2 : α2) (f : α1 → α2 → Option γ) : B2 (some (a1, a2)) f = f a1 a2 := rfl
theorem B2_none {α1 α2 γ : Type} (f : α1 → α2 → Option γ) : B2 none f = none := rfl
theorem b2 {α1 α2 γ : Type} {x : Option (α1 × α2)} {f : α1 → α2 → Option γ} {y : γ} (h : B2 x f = some y) : ∃ a1 a2, x = some (a1, a2) ∧ f a1 a2 = some y := by
  cases hx : x with
  | none => rw [hx] at h; cases h
  | some q => rw [hx] at h; exact ⟨q.1, q.2, rfl, h⟩
def BR2 {α1 α2 ρ γ : Type} (x : Option ((α1 × α2) ⊕ ρ)) (f : α1 → α2 → Option γ) (g : ρ → Option γ) : Option γ := x.bind fun w => match w with
  | .inl q => f q.1 q.2
  | .inr r => g r
theorem BR2_l {α1 α2 ρ γ : Type} (a1 : α1) (a2 : α2) (f : α1 → α2 → Option γ) (g : ρ → Option γ) : BR2 (some (.inl (a1, a2))) f g = f a1 a2 := rfl
theorem BR2_r {α1 α2 ρ γ : Type} (r : ρ) (f : α1 → α2 → Option γ) (g : ρ → Option γ) : BR2 (some (.inr r)) f g = g r := rfl
theorem bR2 {α1 α2 ρ γ : Type} {x : Option ((α1 × α2) ⊕ ρ)} {f : α1 → α2 → Option γ} {g : ρ → Option γ} {y : γ} (h : BR2 x f g = some y) : ∃ q, x = some q ∧ ((∃ a1 a2, q = .inl (a1, a2) ∧ f a1 a2 = some y) ∨ ∃ r, q = .inr r ∧ g r = some y) := by
  cases hx : x with
  | none => rw [hx] at h; cases h
  | some w =>
    rw [hx] at h
    cases w with
    | inl q => exact ⟨_, rfl, Or.inl ⟨q.1, q.2, rfl, h⟩⟩
    | inr r => exact ⟨_, rfl, Or.inr ⟨r, rfl, h⟩⟩
theorem inj2 {α1 α2 : Type} {a1 b1 : α1} {a2 b2 : α2} (h : some (a1, a2) = some (b1, b2)) : a1 = b1 ∧ a2 = b2 := by
  cases h; exact ⟨rfl, rfl⟩
theorem pr2 {α1 α2 : Type} {a1 b1 : α1} {a2 b2 : α2} (h : (a1, a2) = (b1, b2)) : a1 = b1 ∧ a2 = b2 := by
  cases h; exact ⟨rfl, rfl⟩
def lpf2 {α1 α2 E : Type} (step : α1 → α2 → Option ((α1 × α2) ⊕ E)) (n : Nat) (a1 : α1) (a2 : α2) : Option E := lpf (fun q => step q.1 q.2) n (a1, a2)
noncomputable def lq2 {α1 α2 E : Type} (step : α1 → α2 → Option ((α1 × α2) ⊕ E)) (a1 : α1) (a2 : α2) : Option E := lp (fun q => step q.1 q.2) (a1, a2)
theorem lq2_ex {α1 α2 E : Type} {step : α1 → α2 → Option ((α1 × α2) ⊕ E)} {a1 : α1} {a2 : α2} {e : E} (h : lq2 step a1 a2 = some e) : ∃ n, lpf2 step n a1 a2 = some e := lp_ex h
theorem lpf2_0 {α1 α2 E : Type} {step : α1 → α2 → Option ((α1 × α2) ⊕ E)} {a1 : α1} {a2 : α2} {e : E} (h : lpf2 step 0 a1 a2 = some e) : False := by cases h
theorem lpf2_s {α1 α2 E : Type} {step : α1 → α2 → Option ((α1 × α2) ⊕ E)} {n : Nat} {a1 : α1} {a2 : α2} {e : E} (h : lpf2 step (n + 1) a1 a2 = some e) : ∃ q, step a1 a2 = some q ∧ ((∃ b1 b2, q = .inl (b1, b2) ∧ lpf2 step n b1 b2 = some e) ∨ q = .inr e) := by
  unfold lpf2 at h
  rw [lpf] at h
  cases hs : step a1 a2 with
  | none => rw [hs] at h; cases h
  | some q =>
    rw [hs] at h
    cases q with
    | inl w => exact ⟨_, rfl, Or.inl ⟨w.1, w.2, rfl, h⟩⟩
    | inr e1 => exact ⟨_, rfl, Or.inr (by rw [Option.some.inj h])⟩
theorem lpc2 {α1 α2 E : Type} {step : α1 → α2 → Option ((α1 × α2) ⊕ E)} {n : Nat} {a1 : α1} {a2 : α2} {q : (α1 × α2) ⊕ E} {e : E} (h : some (Sum.inl (a1, a2)) = some q) (hq : (∃ b1 b2, q = .inl (b1, b2) ∧ lpf2 step n b1 b2 = some e) ∨ q = .inr e) : lpf2 step n a1 a2 = some e := by
  cases h
  rcases hq with ⟨b1, b2, h1, h2⟩ | h1
  · cases h1; exact h2
  · cases h1
theorem lpx2 {α1 α2 E : Type} {step : α1 → α2 → Option ((α1 × α2) ⊕ E)} {n : Nat} {q : (α1 × α2) ⊕ E} {e e1 : E} (h : some (Sum.inr e1) = some q) (hq : (∃ b1 b2, q = .inl (b1, b2) ∧ lpf2 step n b1 b2 = some e) ∨ q = .inr e) : e1 = e := by
  cases h
  rcases hq with ⟨b1, b2, h1, h2⟩ | h1
  · cases h1
  · cases h1; rfl
def B3 {α1 α2 α3 γ : Type} (x : Option (α1 × α2 × α3)) (f : α1 → α2 → α3 → Option γ) : Option γ := x.bind fun q => f q.1 q.2.1 q.2.2
theorem B3_some {α1 α2 α3 γ : Type} (a1 : α1) (a2 : α2) (a3 : α3) (f : α1 → α2 → α3 → Option γ) : B3 (some (a1, a2, a3)) f = f a1 a2 a3 := rfl
theorem B3_none {α1 α2 α3 γ : Type} (f : α1 → α2 → α3 → Option γ) : B3 none f = none := rfl
theorem b3 {α1 α2 α3 γ : Type} {x : Option (α1 × α2 × α3)} {f : α1 → α2 → α3 → Option γ} {y : γ} (h : B3 x f = some y) : ∃ a1 a2 a3, x = some (a1, a2, a3) ∧ f a1 a2 a3 = some y := by
  cases hx : x with
  | none => rw [hx] at h; cases h
  | some q => rw [hx] at h; exact ⟨q.1, q.2.1, q.2.2, rfl, h⟩
def BR3 {α1 α2 α3 ρ γ : Type} (x : Option ((α1 × α2 × α3) ⊕ ρ)) (f : α1 → α2 → α3 → Option γ) (g : ρ → Option γ) : Option γ := x.bind fun w => match w with
  | .inl q => f q.1 q.2.1 q.2.2
  | .inr r => g r
theorem BR3_l {α1 α2 α3 ρ γ : Type} (a1 : α1) (a2 : α2) (a3 : α3) (f : α1 → α2 → α3 → Option γ) (g : ρ → Option γ) : BR3 (some (.inl (a1, a2, a3))) f g = f a1 a2 a3 := rfl
theorem BR3_r {α1 α2 α3 ρ γ : Type} (r : ρ) (f : α1 → α2 → α3 → Option γ) (g : ρ → Option γ) : BR3 (some (.inr r)) f g = g r := rfl
theorem bR3 {α1 α2 α3 ρ γ : Type} {x : Option ((α1 × α2 × α3) ⊕ ρ)} {f : α1 → α2 → α3 → Option γ} {g : ρ → Option γ} {y : γ} (h : BR3 x f g = some y) : ∃ q, x = some q ∧ ((∃ a1 a2 a3, q = .inl (a1, a2, a3) ∧ f a1 a2 a3 = some y) ∨ ∃ r, q = .inr r ∧ g r = some y) := by
  cases hx : x with
  | none => rw [hx] at h; cases h
  | some w =>
    rw [hx] at h
    cases w with
    | inl q => exact ⟨_, rfl, Or.inl ⟨q.1, q.2.1, q.2.2, rfl, h⟩⟩
    | inr r => exact ⟨_, rfl, Or.inr ⟨r, rfl, h⟩⟩
theorem inj3 {α1 α2 α3 : Type} {a1 b1 : α1} {a2 b2 : α2} {a3 b3 : α3} (h : some (a1, a2, a3) = some (b1, b2, b3)) : a1 = b1 ∧ a2 = b2 ∧ a3 = b3 := by
  cases h; exact ⟨rfl, rfl, rfl⟩
theorem pr3 {α1 α2 α3 : Type} {a1 b1 : α1} {a2 b2 : α2} {a3 b3 : α3} (h : (a1, a2, a3) = (b1, b2, b3)) : a1 = b1 ∧ a2 = b2 ∧ a3 = b3 := by
  cases h; exact ⟨rfl, rfl, rfl⟩
def lpf3 {α1 α2 α3 E : Type} (step : α1 → α2 → α3 → Option ((α1 × α2 × α3) ⊕ E)) (n : Nat) (a1 : α1) (a2 : α2) (a3 : α3) : Option E := lpf (fun q => step q.1 q.2.1 q.2.2) n (a1, a2, a3)
noncomputable def lq3 {α1 α2 α3 E : Type} (step : α1 → α2 → α3 → Option ((α1 × α2 × α3) ⊕ E)) (a1 : α1) (a2 : α2) (a3 : α3) : Option E := lp (fun q => step q.1 q.2.1 q.2.2) (a1, a2, a3)
theorem lq3_ex {α1 α2 α3 E : Type} {step : α1 → α2 → α3 → Option ((α1 × α2 × α3) ⊕ E)} {a1 : α1} {a2 : α2} {a3 : α3} {e : E} (h : lq3 step a1 a2 a3 = some e) : ∃ n, lpf3 step n a1 a2 a3 = some e := lp_ex h
theorem lpf3_0 {α1 α2 α3 E : Type} {step : α1 → α2 → α3 → Option ((α1 × α2 × α3) ⊕ E)} {a1 : α1} {a2 : α2} {a3 : α3} {e : E} (h : lpf3 step 0 a1 a2 a3 = some e) : False := by cases h
theorem lpf3_s {α1 α2 α3 E : Type} {step : α1 → α2 → α3 → Option ((α1 × α2 × α3) ⊕ E)} {n : Nat} {a1 : α1} {a2 : α2} {a3 : α3} {e : E} (h : lpf3 step (n + 1) a1 a2 a3 = some e) : ∃ q, step a1 a2 a3 = some q ∧ ((∃ b1 b2 b3, q = .inl (b1, b2, b3) ∧ lpf3 step n b1 b2 b3 = some e) ∨ q = .inr e) := by
  unfold lpf3 at h
  rw [lpf] at h
  cases hs : step a1 a2 a3 with
  | none => rw [hs] at h; cases h
  | some q =>
    rw [hs] at h
    cases q with
    | inl w => exact ⟨_, rfl, Or.inl ⟨w.1, w.2.1, w.2.2, rfl, h⟩⟩
    | inr e1 => exact ⟨_, rfl, Or.inr (by rw [Option.some.inj h])⟩
theorem lpc3 {α1 α2 α3 E : Type} {step : α1 → α2 → α3 → Option ((α1 × α2 × α3) ⊕ E)} {n : Nat} {a1 : α1} {a2 : α2} {a3 : α3} {q : (α1 × α2 × α3) ⊕ E} {e : E} (h : some (Sum.inl (a1, a2, a3)) = some q) (hq : (∃ b1 b2 b3, q = .inl (b1, b2, b3) ∧ lpf3 step n b1 b2 b3 = some e) ∨ q = .inr e) : lpf3 step n a1 a2 a3 = some e := by
  cases h
  rcases hq with ⟨b1, b2, b3, h1, h2⟩ | h1
  · cases h1; exact h2
  · cases h1
theorem lpx3 {α1 α2 α3 E : Type} {step : α1 → α2 → α3 → Option ((α1 × α2 × α3) ⊕ E)} {n : Nat} {q : (α1 × α2 × α3) ⊕ E} {e e1 : E} (h : some (Sum.inr e1) = some q) (hq : (∃ b1 b2 b3, q = .inl (b1, b2, b3) ∧ lpf3 step n b1 b2 b3 = some e) ∨ q = .inr e) : e1 = e := by
  cases h
  rcases hq with ⟨b1, b2, b3, h1, h2⟩ | h1
  · cases h1
  · cases h1; rfl
def B4 {α1 α2 α3 α4 γ : Type} (x : Option (α1 × α2 × α3 × α4)) (f : α1 → α2 → α3 → α4 → Option γ) : Option γ := x.bind fun q => f q.1 q.2.1 q.2.2.1 q.2.2.2
theorem B4_some {α1 α2 α3 α4 γ : Type} (a1 : α1) (a2 : α2) (a3 : α3) (a4 : α4) (f : α1 → α2 → α3 → α4 → Option γ) : B4 (some (a1, a2, a3, a4)) f = f a1 a2 a3 a4 := rfl
theorem B4_none {α1 α2 α3 α4 γ : Type} (f : α1 → α2 → α3 → α4 → Option γ) : B4 none f = none := rfl
theorem b4 {α1 α2 α3 α4 γ : Type} {x : Option (α1 × α2 × α3 × α4)} {f : α1 → α2 → α3 → α4 → Option γ} {y : γ} (h : B4 x f = some y) : ∃ a1 a2 a3 a4, x = some (a1, a2, a3, a4) ∧ f a1 a2 a3 a4 = some y := by
  cases hx : x with
  | none => rw [hx] at h; cases h
  | some q => rw [hx] at h; exact ⟨q.1, q.2.1, q.2.2.1, q.2.2.2, rfl, h⟩
def BR4 {α1 α2 α3 α4 ρ γ : Type} (x : Option ((α1 × α2 × α3 × α4) ⊕ ρ)) (f : α1 → α2 → α3 → α4 → Option γ) (g : ρ → Option γ) : Option γ := x.bind fun w => match w with
  | .inl q => f q.1 q.2.1 q.2.2.1 q.2.2.2
  | .inr r => g r
theorem BR4_l {α1 α2 α3 α4 ρ γ : Type} (a1 : α1) (a2 : α2) (a3 : α3) (a4 : α4) (f : α1 → α2 → α3 → α4 → Option γ) (g : ρ → Option γ) : BR4 (some (.inl (a1, a2, a3, a4))) f g = f a1 a2 a3 a4 := rfl
theorem BR4_r {α1 α2 α3 α4 ρ γ : Type} (r : ρ) (f : α1 → α2 → α3 → α4 → Option γ) (g : ρ → Option γ) : BR4 (some (.inr r)) f g = g r := rfl
theorem bR4 {α1 α2 α3 α4 ρ γ : Type} {x : Option ((α1 × α2 × α3 × α4) ⊕ ρ)} {f : α1 → α2 → α3 → α4 → Option γ} {g : ρ → Option γ} {y : γ} (h : BR4 x f g = some y) : ∃ q, x = some q ∧ ((∃ a1 a2 a3 a4, q = .inl (a1, a2, a3, a4) ∧ f a1 a2 a3 a4 = some y) ∨ ∃ r, q = .inr r ∧ g r = some y) := by
  cases hx : x with
  | none => rw [hx] at h; cases h
  | some w =>
    rw [hx] at h
    cases w with
    | inl q => exact ⟨_, rfl, Or.inl ⟨q.1, q.2.1, q.2.2.1, q.2.2.2, rfl, h⟩⟩
    | inr r => exact ⟨_, rfl, Or.inr ⟨r, rfl, h⟩⟩
theorem inj4 {α1 α2 α3 α4 : Type} {a1 b1 : α1} {a2 b2 : α2} {a3 b3 : α3} {a4 b4 : α4} (h : some (a1, a2, a3, a4) = some (b1, b2, b3, b4)) : a1 = b1 ∧ a2 = b2 ∧ a3 = b3 ∧ a4 = b4 := by
  cases h; exact ⟨rfl, rfl, rfl, rfl⟩
theorem pr4 {α1 α2 α3 α4 : Type} {a1 b1 : α1} {a2 b2 : α2} {a3 b3 : α3} {a4 b4 : α4} (h : (a1, a2, a3, a4) = (b1, b2, b3, b4)) : a1 = b1 ∧ a2 = b2 ∧ a3 = b3 ∧ a4 = b4 := by
  cases h; exact ⟨rfl, rfl, rfl, rfl⟩
def lpf4 {α1 α2 α3 α4 E : Type} (step : α1 → α2 → α3 → α4 → Option ((α1 × α2 × α3 × α4) ⊕ E)) (n : Nat) (a1 : α1) (a2 : α2) (a3 : α3) (a4 : α4) : Option E := lpf (fun q => step q.1 q.2.1 q.2.2.1 q.2.2.2) n (a1, a2, a3, a4)
noncomputable def lq4 {α1 α2 α3 α4 E : Type} (step : α1 → α2 → α3 → α4 → Option ((α1 × α2 × α3 × α4) ⊕ E)) (a1 : α1) (a2 : α2) (a3 : α3) (a4 : α4) : Option E := lp (fun q => step q.1 q.2.1 q.2.2.1 q.2.2.2) (a1, a2, a3, a4)
theorem lq4_ex {α1 α2 α3 α4 E : Type} {step : α1 → α2 → α3 → α4 → Option ((α1 × α2 × α3 × α4) ⊕ E)} {a1 : α1} {a2 : α2} {a3 : α3} {a4 : α4} {e : E} (h : lq4 step a1 a2 a3 a4 = some e) : ∃ n, lpf4 step n a1 a2 a3 a4 = some e := lp_ex h
theorem lpf4_0 {α1 α2 α3 α4 E : Type} {step : α1 → α2 → α3 → α4 → Option ((α1 × α2 × α3 × α4) ⊕ E)} {a1 : α1} {a2 : α2} {a3 : α3} {a4 : α4} {e : E} (h : lpf4 step 0 a1 a2 a3 a4 = some e) : False := by cases h
theorem lpf4_s {α1 α2 α3 α4 E : Type} {step : α1 → α2 → α3 → α4 → Option ((α1 × α2 × α3 × α4) ⊕ E)} {n : Nat} {a1 : α1} {a2 : α2} {a3 : α3} {a4 : α4} {e : E} (h : lpf4 step (n + 1) a1 a2 a3 a4 = some e) : ∃ q, step a1 a2 a3 a4 = some q ∧ ((∃ b1 b2 b3 b4, q = .inl (b1, b2, b3, b4) ∧ lpf4 step n b1 b2 b3 b4 = some e) ∨ q = .inr e) := by
  unfold lpf4 at h
  rw [lpf] at h
  cases hs : step a1 a2 a3 a4 with
  | none => rw [hs] at h; cases h
  | some q =>
    rw [hs] at h
    cases q with
    | inl w => exact ⟨_, rfl, Or.inl ⟨w.1, w.2.1, w.2.2.1, w.2.2.2, rfl, h⟩⟩
    | inr e1 => exact ⟨_, rfl, Or.inr (by rw [Option.some.inj h])⟩
theorem lpc4 {α1 α2 α3 α4 E : Type} {step : α1 → α2 → α3 → α4 → Option ((α1 × α2 × α3 × α4) ⊕ E)} {n : Nat} {a1 : α1} {a2 : α2} {a3 : α3} {a4 : α4} {q : (α1 × α2 × α3 × α4) ⊕ E} {e : E} (h : some (Sum.inl (a1, a2, a3, a4)) = some q) (hq : (∃ b1 b2 b3 b4, q = .inl (b1, b2, b3, b4) ∧ lpf4 step n b1 b2 b3 b4 = some e) ∨ q = .inr e) : lpf4 step n a1 a2 a3 a4 = some e := by
  cases h
  rcases hq with ⟨b1, b2, b3, b4, h1, h2⟩ | h1
  · cases h1; exact h2
  · cases h1
theorem lpx4 {α1 α2 α3 α4 E : Type} {step : α1 → α2 → α3 → α4 → Option ((α1 × α2 × α3 × α4) ⊕ E)} {n : Nat} {q : (α1 × α2 × α3 × α4) ⊕ E} {e e1 : E} (h : some (Sum.inr e1) = some q) (hq : (∃ b1 b2 b3 b4, q = .inl (b1, b2, b3, b4) ∧ lpf4 step n b1 b2 b3 b4 = some e) ∨ q = .inr e) : e1 = e := by
  cases h
  rcases hq with ⟨b1, b2, b3, b4, h1, h2⟩ | h1
  · cases h1
  · cases h1; rfl
def B5 {α1 α2 α3 α4 α5 γ : Type} (x : Option (α1 × α2 × α3 × α4 × α5)) (f : α1 → α2 → α3 → α4 → α5 → Option γ) : Option γ := x.bind fun q => f q.1 q.2.1 q.2.2.1 q.2.2.2.1 q.2.2.2.2
theorem B5_some {α1 α2 α3 α4 α5 γ : Type} (a1 : α1) (a2 : α2) (a3 : α3) (a4 : α4) (a5 : α5) (f : α1 → α2 → α3 → α4 → α5 → Option γ) : B5 (some (a1, a2, a3, a4, a5)) f = f a1 a2 a3 a4 a5 := rfl
theorem B5_none {α1 α2 α3 α4 α5 γ : Type} (f : α1 → α2 → α3 → α4 → α5 → Option γ) : B5 none f = none := rfl
theorem b5 {α1 α2 α3 α4 α5 γ : Type} {x : Option (α1 × α2 × α3 × α4 × α5)} {f : α1 → α2 → α3 → α4 → α5 → Option γ} {y : γ} (h : B5 x f = some y) : ∃ a1 a2 a3 a4 a5, x = some (a1, a2, a3, a4, a5) ∧ f a1 a2 a3 a4 a5 = some y := by
  cases hx : x with
  | none => rw [hx] at h; cases h
  | some q => rw [hx] at h; exact ⟨q.1, q.2.1, q.2.2.1, q.2.2.2.1, q.2.2.2.2, rfl, h⟩
def BR5 {α1 α2 α3 α4 α5 ρ γ : Type} (x : Option ((α1 × α2 × α3 × α4 × α5) ⊕ ρ)) (f : α1 → α2 → α3 → α4 → α5 → Option γ) (g : ρ → Option γ) : Option γ := x.bind fun w => match w with
  | .inl q => f q.1 q.2.1 q.2.2.1 q.2.2.2.1 q.2.2.2.2
  | .inr r => g r
theorem BR5_l {α1 α2 α3 α4 α5 ρ γ : Type} (a1 : α1) (a2 : α2) (a3 : α3) (a4 : α4) (a5 : α5) (f : α1 → α2 → α3 → α4 → α5 → Option γ) (g : ρ → Option γ) : BR5 (some (.inl (a1, a2, a3, a4, a5))) f g = f a1 a2 a3 a4 a5 := rfl
theorem BR5_r {α1 α2 α3 α4 α5 ρ γ : Type} (r : ρ) (f : α1 → α2 → α3 → α4 → α5 → Option γ) (g : ρ → Option γ) : BR5 (some (.inr r)) f g = g r := rfl
theorem bR5 {α1 α2 α3 α4 α5 ρ γ : Type} {x : Option ((α1 × α2 × α3 × α4 × α5) ⊕ ρ)} {f : α1 → α2 → α3 → α4 → α5 → Option γ} {g : ρ → Option γ} {y : γ} (h : BR5 x f g = some y) : ∃ q, x = some q ∧ ((∃ a1 a2 a3 a4 a5, q = .inl (a1, a2, a3, a4, a5) ∧ f a1 a2 a3 a4 a5 = some y) ∨ ∃ r, q = .inr r ∧ g r = some y) := by
  cases hx : x with
  | none => rw [hx] at h; cases h
  | some w =>
    rw [hx] at h
    cases w with
    | inl q => exact ⟨_, rfl, Or.inl ⟨q.1, q.2.1, q.2.2.1, q.2.2.2.1, q.2.2.2.2, rfl, h⟩⟩
    | inr r => exact ⟨_, rfl, Or.inr ⟨r, rfl, h⟩⟩
theorem inj5 {α1 α2 α3 α4 α5 : Type} {a1 b1 : α1} {a2 b2 : α2} {a3 b3 : α3} {a4 b4 : α4} {a5 b5 : α5} (h : some (a1, a2, a3, a4, a5) = some (b1, b2, b3, b4, b5)) : a1 = b1 ∧ a2 = b2 ∧ a3 = b3 ∧ a4 = b4 ∧ a5 = b5 := by
  cases h; exact ⟨rfl, rfl, rfl, rfl, rfl⟩
theorem pr5 {α1 α2 α3 α4 α5 : Type} {a1 b1 : α1} {a2 b2 : α2} {a3 b3 : α3} {a4 b4 : α4} {a5 b5 : α5} (h : (a1, a2, a3, a4, a5) = (b1, b2, b3, b4, b5)) : a1 = b1 ∧ a2 = b2 ∧ a3 = b3 ∧ a4 = b4 ∧ a5 = b5 := by
  cases h; exact ⟨rfl, rfl, rfl, rfl, rfl⟩
def lpf5 {α1 α2 α3 α4 α5 E : Type} (step : α1 → α2 → α3 → α4 → α5 → Option ((α1 × α2 × α3 × α4 × α5) ⊕ E)) (n : Nat) (a1 : α1) (a2 : α2) (a3 : α3) (a4 : α4) (a5 : α5) : Option E := lpf (fun q => step q.1 q.2.1 q.2.2.1 q.2.2.2.1 q.2.2.2.2) n (a1, a2, a3, a4, a5)
noncomputable def lq5 {α1 α2 α3 α4 α5 E : Type} (step : α1 → α2 → α3 → α4 → α5 → Option ((α1 × α2 × α3 × α4 × α5) ⊕ E)) (a1 : α1) (a2 : α2) (a3 : α3) (a4 : α4) (a5 : α5) : Option E := lp (fun q => step q.1 q.2.1 q.2.2.1 q.2.2.2.1 q.2.2.2.2) (a1, a2, a3, a4, a5)
theorem lq5_ex {α1 α2 α3 α4 α5 E : Type} {step : α1 → α2 → α3 → α4 → α5 → Option ((α1 × α2 × α3 × α4 × α5) ⊕ E)} {a1 : α1} {a2 : α2} {a3 : α3} {a4 : α4} {a5 : α5} {e : E} (h : lq5 step a1 a2 a3 a4 a5 = some e) : ∃ n, lpf5 step n a1 a2 a3 a4 a5 = some e := lp_ex h
theorem lpf5_0 {α1 α2 α3 α4 α5 E : Type} {step : α1 → α2 → α3 → α4 → α5 → Option ((α1 × α2 × α3 × α4 × α5) ⊕ E)} {a1 : α1} {a2 : α2} {a3 : α3} {a4 : α4} {a5 : α5} {e : E} (h : lpf5 step 0 a1 a2 a3 a4 a5 = some e) : False := by cases h
theorem lpf5_s {α1 α2 α3 α4 α5 E : Type} {step : α1 → α2 → α3 → α4 → α5 → Option ((α1 × α2 × α3 × α4 × α5) ⊕ E)} {n : Nat} {a1 : α1} {a2 : α2} {a3 : α3} {a4 : α4} {a5 : α5} {e : E} (h : lpf5 step (n + 1) a1 a2 a3 a4 a5 = some e) : ∃ q, step a1 a2 a3 a4 a5 = some q ∧ ((∃ b1 b2 b3 b4 b5, q = .inl (b1, b2, b3, b4, b5) ∧ lpf5 step n b1 b2 b3 b4 b5 = some e) ∨ q = .inr e) := by
  unfold lpf5 at h
  rw [lpf] at h
  cases hs : step a1 a2 a3 a4 a5 with
  | none => rw [hs] at h; cases h
  | some q =>
    rw [hs] at h
    cases q with
    | inl w => exact ⟨_, rfl, Or.inl ⟨w.1, w.2.1, w.2.2.1, w.2.2.2.1, w.2.2.2.2, rfl, h⟩⟩
    | inr e1 => exact ⟨_, rfl, Or.inr (by rw [Option.some.inj h])⟩
theorem lpc5 {α1 α2 α3 α4 α5 E : Type} {step : α1 → α2 → α3 → α4 → α5 → Option ((α1 × α2 × α3 × α4 × α5) ⊕ E)} {n : Nat} {a1 : α1} {a2 : α2} {a3 : α3} {a4 : α4} {a5 : α5} {q : (α1 × α2 × α3 × α4 × α5) ⊕ E} {e : E} (h : some (Sum.inl (a1, a2, a3, a4, a5)) = some q) (hq : (∃ b1 b2 b3 b4 b5, q = .inl (b1, b2, b3, b4, b5) ∧ lpf5 step n b1 b2 b3 b4 b5 = some e) ∨ q = .inr e) : lpf5 step n a1 a2 a3 a4 a5 = some e := by
  cases h
  rcases hq with ⟨b1, b2, b3, b4, b5, h1, h2⟩ | h1
  · cases h1; exact h2
  · cases h1
theorem lpx5 {α1 α2 α3 α4 α5 E : Type} {step : α1 → α2 → α3 → α4 → α5 → Option ((α1 × α2 × α3 × α4 × α5) ⊕ E)} {n : Nat} {q : (α1 × α2 × α3 × α4 × α5) ⊕ E} {e e1 : E} (h : some (Sum.inr e1) = some q) (hq : (∃ b1 b2 b3 b4 b5, q = .inl (b1, b2, b3, b4, b5) ∧ lpf5 step n b1 b2 b3 b4 b5 = some e) ∨ q = .inr e) : e1 = e := by
  cases h
  rcases hq with ⟨b1, b2, b3, b4, b5, h1, h2⟩ | h1
  · cases h1
  · cases h1; rfl
def B6 {α1 α2 α3 α4 α5 α6 γ : Type} (x : Option (α1 × α2 × α3 × α4 × α5 × α6)) (f : α1 → α2 → α3 → α4 → α5 → α6 → Option γ) : Option γ := x.bind fun q => f q.1 q.2.1 q.2.2.1 q.2.2.2.1 q.2.2.2.2.1 q.2.2.2.2.2
theorem B6_some {α1 α2 α3 α4 α5 α6 γ : Type} (a1 : α1) (a2 : α2) (a3 : α3) (a4 : α4) (a5 : α5) (a6 : α6) (f : α1 → α2 → α3 → α4 → α5 → α6 → Option γ) : B6 (some (a1, a2, a3, a4, a5, a6)) f = f a1 a2 a3 a4 a5 a6 := rfl
theorem B6_none {α1 α2 α3 α4 α5 α6 γ : Type} (f : α1 → α2 → α3 → α4 → α5 → α6 → Option γ) : B6 none f = none := rfl
theorem b6 {α1 α2 α3 α4 α5 α6 γ : Type} {x : Option (α1 × α2 × α3 × α4 × α5 × α6)} {f : α1 → α2 → α3 → α4 → α5 → α6 → Option γ} {y : γ} (h : B6 x f = some y) : ∃ a1 a2 a3 a4 a5 a6, x = some (a1, a2, a3, a4, a5, a6) ∧ f a1 a2 a3 a4 a5 a6 = some y := by
  cases hx : x with
  | none => rw [hx] at h; cases h
  | some q => rw [hx] at h; exact ⟨q.1, q.2.1, q.2.2.1, q.2.2.2.1, q.2.2.2.2.1, q.2.2.2.2.2, rfl, h⟩
def BR6 {α1 α2 α3 α4 α5 α6 ρ γ : Type} (x : Option ((α1 × α2 × α3 × α4 × α5 × α6) ⊕ ρ)) (f : α1 → α2 → α3 → α4 → α5 → α6 → Option γ) (g : ρ → Option γ) : Option γ := x.bind fun w => match w with
  | .inl q => f q.1 q.2.1 q.2.2.1 q.2.2.2.1 q.2.2.2.2.1 q.2.2.2.2.2
  | .inr r => g r
theorem BR6_l {α1 α2 α3 α4 α5 α6 ρ γ : Type} (a1 : α1) (a2 : α2) (a3 : α3) (a4 : α4) (a5 : α5) (a6 : α6) (f : α1 → α2 → α3 → α4 → α5 → α6 → Option γ) (g : ρ → Option γ) : BR6 (some (.inl (a1, a2, a3, a4, a5, a6))) f g = f a1 a2 a3 a4 a5 a6 := rfl
theorem BR6_r {α1 α2 α3 α4 α5 α6 ρ γ : Type} (r : ρ) (f : α1 → α2 → α3 → α4 → α5 → α6 → Option γ) (g : ρ → Option γ) : BR6 (some (.inr r)) f g = g r := rfl
theorem bR6 {α1 α2 α3 α4 α5 α6 ρ γ : Type} {x : Option ((α1 × α2 × α3 × α4 × α5 × α6) ⊕ ρ)} {f : α1 → α2 → α3 → α4 → α5 → α6 → Option γ} {g : ρ → Option γ} {y : γ} (h : BR6 x f g = some y) : ∃ q, x = some q ∧ ((∃ a1 a2 a3 a4 a5 a6, q = .inl (a1, a2, a3, a4, a5, a6) ∧ f a1 a2 a3 a4 a5 a6 = some y) ∨ ∃ r, q = .inr r ∧ g r = some y) := by
  cases hx : x with
  | none => rw [hx] at h; cases h
  | some w =>
    rw [hx] at h
    cases w with
    | inl q => exact ⟨_, rfl, Or.inl ⟨q.1, q.2.1, q.2.2.1, q.2.2.2.1, q.2.2.2.2.1, q.2.2.2.2.2, rfl, h⟩⟩
    | inr r => exact ⟨_, rfl, Or.inr ⟨r, rfl, h⟩⟩
theorem inj6 {α1 α2 α3 α4 α5 α6 : Type} {a1 b1 : α1} {a2 b2 : α2} {a3 b3 : α3} {a4 b4 : α4} {a5 b5 : α5} {a6 b6 : α6} (h : some (a1, a2, a3, a4, a5, a6) = some (b1, b2, b3, b4, b5, b6)) : a1 = b1 ∧ a2 = b2 ∧ a3 = b3 ∧ a4 = b4 ∧ a5 = b5 ∧ a6 = b6 := by
  cases h; exact ⟨rfl, rfl, rfl, rfl, rfl, rfl⟩
theorem pr6 {α1 α2 α3 α4 α5 α6 : Type} {a1 b1 : α1} {a2 b2 : α2} {a3 b3 : α3} {a4 b4 : α4} {a5 b5 : α5} {a6 b6 : α6} (h : (a1, a2, a3, a4, a5, a6) = (b1, b2, b3, b4, b5, b6)) : a1 = b1 ∧ a2 = b2 ∧ a3 = b3 ∧ a4 = b4 ∧ a5 = b5 ∧ a6 = b6 := by
  cases h; exact ⟨rfl, rfl, rfl, rfl, rfl, rfl⟩
def lpf6 {α1 α2 α3 α4 α5 α6 E : Type} (step : α1 → α2 → α3 → α4 → α5 → α6 → Option ((α1 × α2 × α3 × α4 × α5 × α6) ⊕ E)) (n : Nat) (a1 : α1) (a2 : α2) (a3 : α3) (a4 : α4) (a5 : α5) (a6 : α6) : Option E := lpf (fun q => step q.1 q.2.1 q.2.2.1 q.2.2.2.1 q.2.2.2.2.1 q.2.2.2.2.2) n (a1, a2, a3, a4, a5, a6)
noncomputable def lq6 {α1 α2 α3 α4 α5 α6 E : Type} (step : α1 → α2 → α3 → α4 → α5 → α6 → Option ((α1 × α2 × α3 × α4 × α5 × α6) ⊕ E)) (a1 : α1) (a2 : α2) (a3 : α3) (a4 : α4) (a5 : α5) (a6 : α6) : Option E := lp (fun q => step q.1 q.2.1 q.2.2.1 q.2.2.2.1 q.2.2.2.2.1 q.2.2.2.2.2) (a1, a2, a3, a4, a5, a6)
theorem lq6_ex {α1 α2 α3 α4 α5 α6 E : Type} {step : α1 → α2 → α3 → α4 → α5 → α6 → Option ((α1 × α2 × α3 × α4 × α5 × α6) ⊕ E)} {a1 : α1} {a2 : α2} {a3 : α3} {a4 : α4} {a5 : α5} {a6 : α6} {e : E} (h : lq6 step a1 a2 a3 a4 a5 a6 = some e) : ∃ n, lpf6 step n a1 a2 a3 a4 a5 a6 = some e := lp_ex h
theorem lpf6_0 {α1 α2 α3 α4 α5 α6 E : Type} {step : α1 → α2 → α3 → α4 → α5 → α6 → Option ((α1 × α2 × α3 × α4 × α5 × α6) ⊕ E)} {a1 : α1} {a2 : α2} {a3 : α3} {a4 : α4} {a5 : α5} {a6 : α6} {e : E} (h : lpf6 step 0 a1 a2 a3 a4 a5 a6 = some e) : False := by cases h
theorem lpf6_s {α1 α2 α3 α4 α5 α6 E : Type} {step : α1 → α2 → α3 → α4 → α5 → α6 → Option ((α1 × α2 × α3 × α4 × α5 × α6) ⊕ E)} {n : Nat} {a1 : α1} {a2 : α2} {a3 : α3} {a4 : α4} {a5 : α5} {a6 : α6} {e : E} (h : lpf6 step (n + 1) a1 a2 a3 a4 a5 a6 = some e) : ∃ q, step a1 a2 a3 a4 a5 a6 = some q ∧ ((∃ b1 b2 b3 b4 b5 b6, q = .inl (b1, b2, b3, b4, b5, b6) ∧ lpf6 step n b1 b2 b3 b4 b5 b6 = some e) ∨ q = .inr e) := by
  unfold lpf6 at h
  rw [lpf] at h
  cases hs : step a1 a2 a3 a4 a5 a6 with
  | none => rw [hs] at h; cases h
  | some q =>
    rw [hs] at h
    cases q with
    | inl w => exact ⟨_, rfl, Or.inl ⟨w.1, w.2.1, w.2.2.1, w.2.2.2.1, w.2.2.2.2.1, w.2.2.2.2.2, rfl, h⟩⟩
    | inr e1 => exact ⟨_, rfl, Or.inr (by rw [Option.some.inj h])⟩
theorem lpc6 {α1 α2 α3 α4 α5 α6 E : Type} {step : α1 → α2 → α3 → α4 → α5 → α6 → Option ((α1 × α2 × α3 × α4 × α5 × α6) ⊕ E)} {n : Nat} {a1 : α1} {a2 : α2} {a3 : α3} {a4 : α4} {a5 : α5} {a6 : α6} {q : (α1 × α2 × α3 × α4 × α5 × α6) ⊕ E} {e : E} (h : some (Sum.inl (a1, a2, a3, a4, a5, a6)) = some q) (hq : (∃ b1 b2 b3 b4 b5 b6, q = .inl (b1, b2, b3, b4, b5, b6) ∧ lpf6 step n b1 b2 b3 b4 b5 b6 = some e) ∨ q = .inr e) : lpf6 step n a1 a2 a3 a4 a5 a6 = some e := by
  cases h
  rcases hq with ⟨b1, b2, b3, b4, b5, b6, h1, h2⟩ | h1
  · cases h1; exact h2
  · cases h1
theorem lpx6 {α1 α2 α3 α4 α5 α6 E : Type} {step : α1 → α2 → α3 → α4 → α5 → α6 → Option ((α1 × α2 × α3 × α4 × α5 × α6) ⊕ E)} {n : Nat} {q : (α1 × α2 × α3 × α4 × α5 × α6) ⊕ E} {e e1 : E} (h : some (Sum.inr e1) = some q) (hq : (∃ b1 b2 b3 b4 b5 b6, q = .inl (b1, b2, b3, b4, b5, b6) ∧ lpf6 step n b1 b2 b3 b4 b5 b6 = some e) ∨ q = .inr e) : e1 = e := by
  cases h
  rcases hq with ⟨b1, b2, b3, b4, b5, b6, h1, h2⟩ | h1
  · cases h1
  · cases h1; rfl
def B7 {α1 α2 α3 α4 α5 α6 α7 γ : Type} (x : Option (α1 × α2 × α3 × α4 × α5 × α6 × α7)) (f : α1 → α2 → α3 → α4 → α5 → α6 → α7 → Option γ) : Option γ := x.bind fun q => f q.1 q.2.1 q.2.2.1 q.2.2.2.1 q.2.2.2.2.1 q.2.2.2.2.2.1 q.2.2.2.2.2.2
theorem B7_some {α1 α2 α3 α4 α5 α6 α7 γ : Type} (a1 : α1) (a2 : α2) (a3 : α3) (a4 : α4) (a5 : α5) (a6 : α6) (a7 : α7) (f : α1 → α2 → α3 → α4 → α5 → α6 → α7 → Option γ) : B7 (some (a1, a2, a3, a4, a5, a6, a7)) f = f a1 a2 a3 a4 a5 a6 a7 := rfl
theorem B7_none {α1 α2 α3 α4 α5 α6 α7 γ : Type} (f : α1 → α2 → α3 → α4 → α5 → α6 → α7 → Option γ) : B7 none f = none := rfl
theorem b7 {α1 α2 α3 α4 α5 α6 α7 γ : Type} {x : Option (α1 × α2 × α3 × α4 × α5 × α6 × α7)} {f : α1 → α2 → α3 → α4 → α5 → α6 → α7 → Option γ} {y : γ} (h : B7 x f = some y) : ∃ a1 a2 a3 a4 a5 a6 a7, x = some (a1, a2, a3, a4, a5, a6, a7) ∧ f a1 a2 a3 a4 a5 a6 a7 = some y := by
  cases hx : x with
  | none => rw [hx] at h; cases h
  | some q => rw [hx] at h; exact ⟨q.1, q.2.1, q.2.2.1, q.2.2.2.1, q.2.2.2.2.1, q.2.2.2.2.2.1, q.2.2.2.2.2.2, rfl, h⟩
def BR7 {α1 α2 α3 α4 α5 α6 α7 ρ γ : Type} (x : Option ((α1 × α2 × α3 × α4 × α5 × α6 × α7) ⊕ ρ)) (f : α1 → α2 → α3 → α4 → α5 → α6 → α7 → Option γ) (g : ρ → Option γ) : Option γ := x.bind fun w => match w with
  | .inl q => f q.1 q.2.1 q.2.2.1 q.2.2.2.1 q.2.2.2.2.1 q.2.2.2.2.2.1 q.2.2.2.2.2.2
  | .inr r => g r
theorem BR7_l {α1 α2 α3 α4 α5 α6 α7 ρ γ : Type} (a1 : α1) (a2 : α2) (a3 : α3) (a4 : α4) (a5 : α5) (a6 : α6) (a7 : α7) (f : α1 → α2 → α3 → α4 → α5 → α6 → α7 → Option γ) (g : ρ → Option γ) : BR7 (some (.inl (a1, a2, a3, a4, a5, a6, a7))) f g = f a1 a2 a3 a4 a5 a6 a7 := rfl
theorem BR7_r {α1 α2 α3 α4 α5 α6 α7 ρ γ : Type} (r : ρ) (f : α1 → α2 → α3 → α4 → α5 → α6 → α7 → Option γ) (g : ρ → Option γ) : BR7 (some (.inr r)) f g = g r := rfl
theorem bR7 {α1 α2 α3 α4 α5 α6 α7 ρ γ : Type} {x : Option ((α1 × α2 × α3 × α4 × α5 × α6 × α7) ⊕ ρ)} {f : α1 → α2 → α3 → α4 → α5 → α6 → α7 → Option γ} {g : ρ → Option γ} {y : γ} (h : BR7 x f g = some y) : ∃ q, x = some q ∧ ((∃ a1 a2 a3 a4 a5 a6 a7, q = .inl (a1, a2, a3, a4, a5, a6, a7) ∧ f a1 a2 a3 a4 a5 a6 a7 = some y) ∨ ∃ r, q = .inr r ∧ g r = some y) := by
  cases hx : x with
  | none => rw [hx] at h; cases h
  | some w =>
    rw [hx] at h
    cases w with
    | inl q => exact ⟨_, rfl, Or.inl ⟨q.1, q.2.1, q.2.2.1, q.2.2.2.1, q.2.2.2.2.1, q.2.2.2.2.2.1, q.2.2.2.2.2.2, rfl, h⟩⟩
    | inr r => exact ⟨_, rfl, Or.inr ⟨r, rfl, h⟩⟩
theorem inj7 {α1 α2 α3 α4 α5 α6 α7 : Type} {a1 b1 : α1} {a2 b2 : α2} {a3 b3 : α3} {a4 b4 : α4} {a5 b5 : α5} {a6 b6 : α6} {a7 b7 : α7} (h : some (a1, a2, a3, a4, a5, a6, a7) = some (b1, b2, b3, b4, b5, b6, b7)) : a1 = b1 ∧ a2 = b2 ∧ a3 = b3 ∧ a4 = b4 ∧ a5 = b5 ∧ a6 = b6 ∧ a7 = b7 := by
  cases h; exact ⟨rfl, rfl, rfl, rfl, rfl, rfl, rfl⟩
theorem pr7 {α1 α2 α3 α4 α5 α6 α7 : Type} {a1 b1 : α1} {a2 b2 : α2} {a3 b3 : α3} {a4 b4 : α4} {a5 b5 : α5} {a6 b6 : α6} {a7 b7 : α7} (h : (a1, a2, a3, a4, a5, a6, a7) = (b1, b2, b3, b4, b5, b6, b7)) : a1 = b1 ∧ a2 = b2 ∧ a3 = b3 ∧ a4 = b4 ∧ a5 = b5 ∧ a6 = b6 ∧ a7 = b7 := by
  cases h; exact ⟨rfl, rfl, rfl, rfl, rfl, rfl, rfl⟩
def lpf7 {α1 α2 α3 α4 α5 α6 α7 E : Type} (step : α1 → α2 → α3 → α4 → α5 → α6 → α7 → Option ((α1 × α2 × α3 × α4 × α5 × α6 × α7) ⊕ E)) (n : Nat) (a1 : α1) (a2 : α2) (a3 : α3) (a4 : α4) (a5 : α5) (a6 : α6) (a7 : α7) : Option E := lpf (fun q => step q.1 q.2.1 q.2.2.1 q.2.2.2.1 q.2.2.2.2.1 q.2.2.2.2.2.1 q.2.2.2.2.2.2) n (a1, a2, a3, a4, a5, a6, a7)
noncomputable def lq7 {α1 α2 α3 α4 α5 α6 α7 E : Type} (step : α1 → α2 → α3 → α4 → α5 → α6 → α7 → Option ((α1 × α2 × α3 × α4 × α5 × α6 × α7) ⊕ E)) (a1 : α1) (a2 : α2) (a3 : α3) (a4 : α4) (a5 : α5) (a6 : α6) (a7 : α7) : Option E := lp (fun q => step q.1 q.2.1 q.2.2.1 q.2.2.2.1 q.2.2.2.2.1 q.2.2.2.2.2.1 q.2.2.2.2.2.2) (a1, a2, a3, a4, a5, a6, a7)
theorem lq7_ex {α1 α2 α3 α4 α5 α6 α7 E : Type} {step : α1 → α2 → α3 → α4 → α5 → α6 → α7 → Option ((α1 × α2 × α3 × α4 × α5 × α6 × α7) ⊕ E)} {a1 : α1} {a2 : α2} {a3 : α3} {a4 : α4} {a5 : α5} {a6 : α6} {a7 : α7} {e : E} (h : lq7 step a1 a2 a3 a4 a5 a6 a7 = some e) : ∃ n, lpf7 step n a1 a2 a3 a4 a5 a6 a7 = some e := lp_ex h
theorem lpf7_0 {α1 α2 α3 α4 α5 α6 α7 E : Type} {step : α1 → α2 → α3 → α4 → α5 → α6 → α7 → Option ((α1 × α2 × α3 × α4 × α5 × α6 × α7) ⊕ E)} {a1 : α1} {a2 : α2} {a3 : α3} {a4 : α4} {a5 : α5} {a6 : α6} {a7 : α7} {e : E} (h : lpf7 step 0 a1 a2 a3 a4 a5 a6 a7 = some e) : False := by cases h
theorem lpf7_s {α1 α2 α3 α4 α5 α6 α7 E : Type} {step : α1 → α2 → α3 → α4 → α5 → α6 → α7 → Option ((α1 × α2 × α3 × α4 × α5 × α6 × α7) ⊕ E)} {n : Nat} {a1 : α1} {a2 : α2} {a3 : α3} {a4 : α4} {a5 : α5} {a6 : α6} {a7 : α7} {e : E} (h : lpf7 step (n + 1) a1 a2 a3 a4 a5 a6 a7 = some e) : ∃ q, step a1 a2 a3 a4 a5 a6 a7 = some q ∧ ((∃ b1 b2 b3 b4 b5 b6 b7, q = .inl (b1, b2, b3, b4, b5, b6, b7) ∧ lpf7 step n b1 b2 b3 b4 b5 b6 b7 = some e) ∨ q = .inr e) := by
  unfold lpf7 at h
  rw [lpf] at h
  cases hs : step a1 a2 a3 a4 a5 a6 a7 with
  | none => rw [hs] at h; cases h
  | some q =>
    rw [hs] at h
    cases q with
    | inl w => exact ⟨_, rfl, Or.inl ⟨w.1, w.2.1, w.2.2.1, w.2.2.2.1, w.2.2.2.2.1, w.2.2.2.2.2.1, w.2.2.2.2.2.2, rfl, h⟩⟩
    | inr e1 => exact ⟨_, rfl, Or.inr (by rw [Option.some.inj h])⟩
theorem lpc7 {α1 α2 α3 α4 α5 α6 α7 E : Type} {step : α1 → α2 → α3 → α4 → α5 → α6 → α7 → Option ((α1 × α2 × α3 × α4 × α5 × α6 × α7) ⊕ E)} {n : Nat} {a1 : α1} {a2 : α2} {a3 : α3} {a4 : α4} {a5 : α5} {a6 : α6} {a7 : α7} {q : (α1 × α2 × α3 × α4 × α5 × α6 × α7) ⊕ E} {e : E} (h : some (Sum.inl (a1, a2, a3, a4, a5, a6, a7)) = some q) (hq : (∃ b1 b2 b3 b4 b5 b6 b7, q = .inl (b1, b2, b3, b4, b5, b6, b7) ∧ lpf7 step n b1 b2 b3 b4 b5 b6 b7 = some e) ∨ q = .inr e) : lpf7 step n a1 a2 a3 a4 a5 a6 a7 = some e := by
  cases h
  rcases hq with ⟨b1, b2, b3, b4, b5, b6, b7, h1, h2⟩ | h1
  · cases h1; exact h2
  · cases h1
theorem lpx7 {α1 α2 α3 α4 α5 α6 α7 E : Type} {step : α1 → α2 → α3 → α4 → α5 → α6 → α7 → Option ((α1 × α2 × α3 × α4 × α5 × α6 × α7) ⊕ E)} {n : Nat} {q : (α1 × α2 × α3 × α4 × α5 × α6 × α7) ⊕ E} {e e1 : E} (h : some (Sum.inr e1) = some q) (hq : (∃ b1 b2 b3 b4 b5 b6 b7, q = .inl (b1, b2, b3, b4, b5, b6, b7) ∧ lpf7 step n b1 b2 b3 b4 b5 b6 b7 = some e) ∨ q = .inr e) : e1 = e := by
  cases h
  rcases hq with ⟨b1, b2, b3, b4, b5, b6, b7, h1, h2⟩ | h1
  · cases h1
  · cases h1; rfl
def B8 {α1 α2 α3 α4 α5 α6 α7 α8 γ : Type} (x : Option (α1 × α2 × α3 × α4 × α5 × α6 × α7 × α8)) (f : α1 → α2 → α3 → α4 → α5 → α6 → α7 → α8 → Option γ) : Option γ := x.bind fun q => f q.1 q.2.1 q.2.2.1 q.2.2.2.1 q.2.2.2.2.1 q.2.2.2.2.2.1 q.2.2.2.2.2.2.1 q.2.2.2.2.2.2.2
theorem B8_some {α1 α2 α3 α4 α5 α6 α7 α8 γ : Type} (a1 : α1) (a2 : α2) (a3 : α3) (a4 : α4) (a5 : α5) (a6 : α6) (a7 : α7) (a8 : α8) (f : α1 → α2 → α3 → α4 → α5 → α6 → α7 → α8 → Option γ) : B8 (some (a1, a2, a3, a4, a5, a6, a7, a8)) f = f a1 a2 a3 a4 a5 a6 a7 a8 := rfl
theorem B8_none {α1 α2 α3 α4 α5 α6 α7 α8 γ : Type} (f : α1 → α2 → α3 → α4 → α5 → α6 → α7 → α8 → Option γ) : B8 none f = none := rfl
theorem b8 {α1 α2 α3 α4 α5 α6 α7 α8 γ : Type} {x : Option (α1 × α2 × α3 × α4 × α5 × α6 × α7 × α8)} {f : α1 → α2 → α3 → α4 → α5 → α6 → α7 → α8 → Option γ} {y : γ} (h : B8 x f = some y) : ∃ a1 a2 a3 a4 a5 a6 a7 a8, x = some (a1, a2, a3, a4, a5, a6, a7, a8) ∧ f a1 a2 a3 a4 a5 a6 a7 a8 = some y := by
  cases hx : x with
  | none => rw [hx] at h; cases h
  | some q => rw [hx] at h; exact ⟨q.1, q.2.1, q.2.2.1, q.2.2.2.1, q.2.2.2.2.1, q.2.2.2.2.2.1, q.2.2.2.2.2.2.1, q.2.2.2.2.2.2.2, rfl, h⟩
def BR8 {α1 α2 α3 α4 α5 α6 α7 α8 ρ γ : Type} (x : Option ((α1 × α2 × α3 × α4 × α5 × α6 × α7 × α8) ⊕ ρ)) (f : α1 → α2 → α3 → α4 → α5 → α6 → α7 → α8 → Option γ) (g : ρ → Option γ) : Option γ := x.bind fun w => match w with
  | .inl q => f q.1 q.2.1 q.2.2.1 q.2.2.2.1 q.2.2.2.2.1 q.2.2.2.2.2.1 q.2.2.2.2.2.2.1 q.2.2.2.2.2.2.2
  | .inr r => g r
theorem BR8_l {α1 α2 α3 α4 α5 α6 α7 α8 ρ γ : Type} (a1 : α1) (a2 : α2) (a3 : α3) (a4 : α4) (a5 : α5) (a6 : α6) (a7 : α7) (a8 : α8) (f : α1 → α2 → α3 → α4 → α5 → α6 → α7 → α8 → Option γ) (g : ρ → Option γ) : BR8 (some (.inl (a1, a2, a3, a4, a5, a6, a7, a8))) f g = f a1 a2 a3 a4 a5 a6 a7 a8 := rfl
theorem BR8_r {α1 α2 α3 α4 α5 α6 α7 α8 ρ γ : Type} (r : ρ) (f : α1 → α2 → α3 → α4 → α5 → α6 → α7 → α8 → Option γ) (g : ρ → Option γ) : BR8 (some (.inr r)) f g = g r := rfl
theorem bR8 {α1 α2 α3 α4 α5 α6 α7 α8 ρ γ : Type} {x : Option ((α1 × α2 × α3 × α4 × α5 × α6 × α7 × α8) ⊕ ρ)} {f : α1 → α2 → α3 → α4 → α5 → α6 → α7 → α8 → Option γ} {g : ρ → Option γ} {y : γ} (h : BR8 x f g = some y) : ∃ q, x = some q ∧ ((∃ a1 a2 a3 a4 a5 a6 a7 a8, q = .inl (a1, a2, a3, a4, a5, a6, a7, a8) ∧ f a1 a2 a3 a4 a5 a6 a7 a8 = some y) ∨ ∃ r, q = .inr r ∧ g r = some y) := by
  cases hx : x with
  | none => rw [hx] at h; cases h
  | some w =>
    rw [hx] at h
    cases w with
    | inl q => exact ⟨_, rfl, Or.inl ⟨q.1, q.2.1, q.2.2.1, q.2.2.2.1, q.2.2.2.2.1, q.2.2.2.2.2.1, q.2.2.2.2.2.2.1, q.2.2.2.2.2.2.2, rfl, h⟩⟩
    | inr r => exact ⟨_, rfl, Or.inr ⟨r, rfl, h⟩⟩
theorem inj8 {α1 α2 α3 α4 α5 α6 α7 α8 : Type} {a1 b1 : α1} {a2 b2 : α2} {a3 b3 : α3} {a4 b4 : α4} {a5 b5 : α5} {a6 b6 : α6} {a7 b7 : α7} {a8 b8 : α8} (h : some (a1, a2, a3, a4, a5, a6, a7, a8) = some (b1, b2, b3, b4, b5, b6, b7, b8)) : a1 = b1 ∧ a2 = b2 ∧ a3 = b3 ∧ a4 = b4 ∧ a5 = b5 ∧ a6 = b6 ∧ a7 = b7 ∧ a8 = b8 := by
  cases h; exact ⟨rfl, rfl, rfl, rfl, rfl, rfl, rfl, rfl⟩
theorem pr8 {α1 α2 α3 α4 α5 α6 α7 α8 : Type} {a1 b1 : α1} {a2 b2 : α2} {a3 b3 : α3} {a4 b4 : α4} {a5 b5 : α5} {a6 b6 : α6} {a7 b7 : α7} {a8 b8 : α8} (h : (a1, a2, a3, a4, a5, a6, a7, a8) = (b1, b2, b3, b4, b5, b6, b7, b8)) : a1 = b1 ∧ a2 = b2 ∧ a3 = b3 ∧ a4 = b4 ∧ a5 = b5 ∧ a6 = b6 ∧ a7 = b7 ∧ a8 = b8 := by
  cases h; exact ⟨rfl, rfl, rfl, rfl, rfl, rfl, rfl, rfl⟩
def lpf8 {α1 α2 α3 α4 α5 α6 α7 α8 E : Type} (step : α1 → α2 → α3 → α4 → α5 → α6 → α7 → α8 → Option ((α1 × α2 × α3 × α4 × α5 × α6 × α7 × α8) ⊕ E)) (n : Nat) (a1 : α1) (a2 : α2) (a3 : α3) (a4 : α4) (a5 : α5) (a6 : α6) (a7 : α7) (a8 : α8) : Option E := lpf (fun q => step q.1 q.2.1 q.2.2.1 q.2.2.2.1 q.2.2.2.2.1 q.2.2.2.2.2.1 q.2.2.2.2.2.2.1 q.2.2.2.2.2.2.2) n (a1, a2, a3, a4, a5, a6, a7, a8)
noncomputable def lq8 {α1 α2 α3 α4 α5 α6 α7 α8 E : Type} (step : α1 → α2 → α3 → α4 → α5 → α6 → α7 → α8 → Option ((α1 × α2 × α3 × α4 × α5 × α6 × α7 × α8) ⊕ E)) (a1 : α1) (a2 : α2) (a3 : α3) (a4 : α4) (a5 : α5) (a6 : α6) (a7 : α7) (a8 : α8) : Option E := lp (fun q => step q.1 q.2.1 q.2.2.1 q.2.2.2.1 q.2.2.2.2.1 q.2.2.2.2.2.1 q.2.2.2.2.2.2.1 q.2.2.2.2.2.2.2) (a1, a2, a3, a4, a5, a6, a7, a8)
theorem lq8_ex {α1 α2 α3 α4 α5 α6 α7 α8 E : Type} {step : α1 → α2 → α3 → α4 → α5 → α6 → α7 → α8 → Option ((α1 × α2 × α3 × α4 × α5 × α6 × α7 × α8) ⊕ E)} {a1 : α1} {a2 : α2} {a3 : α3} {a4 : α4} {a5 : α5} {a6 : α6} {a7 : α7} {a8 : α8} {e : E} (h : lq8 step a1 a2 a3 a4 a5 a6 a7 a8 = some e) : ∃ n, lpf8 step n a1 a2 a3 a4 a5 a6 a7 a8 = some e := lp_ex h
theorem lpf8_0 {α1 α2 α3 α4 α5 α6 α7 α8 E : Type} {step : α1 → α2 → α3 → α4 → α5 → α6 → α7 → α8 → Option ((α1 × α2 × α3 × α4 × α5 × α6 × α7 × α8) ⊕ E)} {a1 : α1} {a2 : α2} {a3 : α3} {a4 : α4} {a5 : α5} {a6 : α6} {a7 : α7} {a8 : α8} {e : E} (h : lpf8 step 0 a1 a2 a3 a4 a5 a6 a7 a8 = some e) : False := by cases h
theorem lpf8_s {α1 α2 α3 α4 α5 α6 α7 α8 E : Type} {step : α1 → α2 → α3 → α4 → α5 → α6 → α7 → α8 → Option ((α1 × α2 × α3 × α4 × α5 × α6 × α7 × α8) ⊕ E)} {n : Nat} {a1 : α1} {a2 : α2} {a3 : α3} {a4 : α4} {a5 : α5} {a6 : α6} {a7 : α7} {a8 : α8} {e : E} (h : lpf8 step (n + 1) a1 a2 a3 a4 a5 a6 a7 a8 = some e) : ∃ q, step a1 a2 a3 a4 a5 a6 a7 a8 = some q ∧ ((∃ b1 b2 b3 b4 b5 b6 b7 b8, q = .inl (b1, b2, b3, b4, b5, b6, b7, b8) ∧ lpf8 step n b1 b2 b3 b4 b5 b6 b7 b8 = some e) ∨ q = .inr e) := by
  unfold lpf8 at h
  rw [lpf] at h
  cases hs : step a1 a2 a3 a4 a5 a6 a7 a8 with
  | none => rw [hs] at h; cases h
  | some q =>
    rw [hs] at h
    cases q with
    | inl w => exact ⟨_, rfl, Or.inl ⟨w.1, w.2.1, w.2.2.1, w.2.2.2.1, w.2.2.2.2.1, w.2.2.2.2.2.1, w.2.2.2.2.2.2.1, w.2.2.2.2.2.2.2, rfl, h⟩⟩
    | inr e1 => exact ⟨_, rfl, Or.inr (by rw [Option.some.inj h])⟩
theorem lpc8 {α1 α2 α3 α4 α5 α6 α7 α8 E : Type} {step : α1 → α2 → α3 → α4 → α5 → α6 → α7 → α8 → Option ((α1 × α2 × α3 × α4 × α5 × α6 × α7 × α8) ⊕ E)} {n : Nat} {a1 : α1} {a2 : α2} {a3 : α3} {a4 : α4} {a5 : α5} {a6 : α6} {a7 : α7} {a8 : α8} {q : (α1 × α2 × α3 × α4 × α5 × α6 × α7 × α8) ⊕ E} {e : E} (h : some (Sum.inl (a1, a2, a3, a4, a5, a6, a7, a8)) = some q) (hq : (∃ b1 b2 b3 b4 b5 b6 b7 b8, q = .inl (b1, b2, b3, b4, b5, b6, b7, b8) ∧ lpf8 step n b1 b2 b3 b4 b5 b6 b7 b8 = some e) ∨ q = .inr e) : lpf8 step n a1 a2 a3 a4 a5 a6 a7 a8 = some e := by
  cases h
  rcases hq with ⟨b1, b2, b3, b4, b5, b6, b7, b8, h1, h2⟩ | h1
  · cases h1; exact h2
  · cases h1
theorem lpx8 {α1 α2 α3 α4 α5 α6 α7 α8 E : Type} {step : α1 → α2 → α3 → α4 → α5 → α6 → α7 → α8 → Option ((α1 × α2 × α3 × α4 × α5 × α6 × α7 × α8) ⊕ E)} {n : Nat} {q : (α1 × α2 × α3 × α4 × α5 × α6 × α7 × α8) ⊕ E} {e e1 : E} (h : some (Sum.inr e1) = some q) (hq : (∃ b1 b2 b3 b4 b5 b6 b7 b8, q = .inl (b1, b2, b3, b4, b5, b6, b7, b8) ∧ lpf8 step n b1 b2 b3 b4 b5 b6 b7 b8 = some e) ∨ q = .inr e) : e1 = e := by
  cases h
  rcases hq with ⟨b1, b2, b3, b4, b5, b6, b7, b8, h1, h2⟩ | h1
  · cases h1
  · cases h1; rfl
def B9 {α1 α2 α3 α4 α5 α6 α7 α8 α9 γ : Type} (x : Option (α1 × α2 × α3 × α4 × α5 × α6 × α7 × α8 × α9)) (f : α1 → α2 → α3 → α4 → α5 → α6 → α7 → α8 → α9 → Option γ) : Option γ := x.bind fun q => f q.1 q.2.1 q.2.2.1 q.2.2.2.1 q.2.2.2.2.1 q.2.2.2.2.2.1 q.2.2.2.2.2.2.1 q.2.2.2.2.2.2.2.1 q.2.2.2.2.2.2.2.2
theorem B9_some {α1 α2 α3 α4 α5 α6 α7 α8 α9 γ : Type} (a1 : α1) (a2 : α2) (a3 : α3) (a4 : α4) (a5 : α5) (a6 : α6) (a7 : α7) (a8 : α8) (a9 : α9) (f : α1 → α2 → α3 → α4 → α5 → α6 → α7 → α8 → α9 → Option γ) : B9 (some (a1, a2, a3, a4, a5, a6, a7, a8, a9)) f = f a1 a2 a3 a4 a5 a6 a7 a8 a9 := rfl
theorem B9_none {α1 α2 α3 α4 α5 α6 α7 α8 α9 γ : Type} (f : α1 → α2 → α3 → α4 → α5 → α6 → α7 → α8 → α9 → Option γ) : B9 none f = none := rfl
theorem b9 {α1 α2 α3 α4 α5 α6 α7 α8 α9 γ : Type} {x : Option (α1 × α2 × α3 × α4 × α5 × α6 × α7 × α8 × α9)} {f : α1 → α2 → α3 → α4 → α5 → α6 → α7 → α8 → α9 → Option γ} {y : γ} (h : B9 x f = some y) : ∃ a1 a2 a3 a4 a5 a6 a7 a8 a9, x = some (a1, a2, a3, a4, a5, a6, a7, a8, a9) ∧ f a1 a2 a3 a4 a5 a6 a7 a8 a9 = some y := by
  cases hx : x with
  | none => rw [hx] at h; cases h
  | some q => rw [hx] at h; exact ⟨q.1, q.2.1, q.2.2.1, q.2.2.2.1, q.2.2.2.2.1, q.2.2.2.2.2.1, q.2.2.2.2.2.2.1, q.2.2.2.2.2.2.2.1, q.2.2.2.2.2.2.2.2, rfl, h⟩
def BR9 {α1 α2 α3 α4 α5 α6 α7 α8 α9 ρ γ : Type} (x : Option ((α1 × α2 × α3 × α4 × α5 × α6 × α7 × α8 × α9) ⊕ ρ)) (f : α1 → α2 → α3 → α4 → α5 → α6 → α7 → α8 → α9 → Option γ) (g : ρ → Option γ) : Option γ := x.bind fun w => match w with
  | .inl q => f q.1 q.2.1 q.2.2.1 q.2.2.2.1 q.2.2.2.2.1 q.2.2.2.2.2.1 q.2.2.2.2.2.2.1 q.2.2.2.2.2.2.2.1 q.2.2.2.2.2.2.2.2
  | .inr r => g r
theorem BR9_l {α1 α2 α3 α4 α5 α6 α7 α8 α9 ρ γ : Type} (a1 : α1) (a2 : α2) (a3 : α3) (a4 : α4) (a5 : α5) (a6 : α6) (a7 : α7) (a8 : α8) (a9 : α9) (f : α1 → α2 → α3 → α4 → α5 → α6 → α7 → α8 → α9 → Option γ) (g : ρ → Option γ) : BR9 (some (.inl (a1, a2, a3, a4, a5, a6, a7, a8, a9))) f g = f a1 a2 a3 a4 a5 a6 a7 a8 a9 := rfl
theorem BR9_r {α1 α2 α3 α4 α5 α6 α7 α8 α9 ρ γ : Type} (r : ρ) (f : α1 → α2 → α3 → α4 → α5 → α6 → α7 → α8 → α9 → Option γ) (g : ρ → Option γ) : BR9 (some (.inr r)) f g = g r := rfl
theorem bR9 {α1 α2 α3 α4 α5 α6 α7 α8 α9 ρ γ : Type} {x : Option ((α1 × α2 × α3 × α4 × α5 × α6 × α7 × α8 × α9) ⊕ ρ)} {f : α1 → α2 → α3 → α4 → α5 → α6 → α7 → α8 → α9 → Option γ} {g : ρ → Option γ} {y : γ} (h : BR9 x f g = some y) : ∃ q, x = some q ∧ ((∃ a1 a2 a3 a4 a5 a6 a7 a8 a9, q = .inl (a1, a2, a3, a4, a5, a6, a7, a8, a9) ∧ f a1 a2 a3 a4 a5 a6 a7 a8 a9 = some y) ∨ ∃ r, q = .inr r ∧ g r = some y) := by
  cases hx : x with
  | none => rw [hx] at h; cases h
  | some w =>
    rw [hx] at h
    cases w with
    | inl q => exact ⟨_, rfl, Or.inl ⟨q.1, q.2.1, q.2.2.1, q.2.2.2.1, q.2.2.2.2.1, q.2.2.2.2.2.1, q.2.2.2.2.2.2.1, q.2.2.2.2.2.2.2.1, q.2.2.2.2.2.2.2.2, rfl, h⟩⟩
    | inr r => exact ⟨_, rfl, Or.inr ⟨r, rfl, h⟩⟩
theorem inj9 {α1 α2 α3 α4 α5 α6 α7 α8 α9 : Type} {a1 b1 : α1} {a2 b2 : α2} {a3 b3 : α3} {a4 b4 : α4} {a5 b5 : α5} {a6 b6 : α6} {a7 b7 : α7} {a8 b8 : α8} {a9 b9 : α9} (h : some (a1, a2, a3, a4, a5, a6, a7, a8, a9) = some (b1, b2, b3, b4, b5, b6, b7, b8, b9)) : a1 = b1 ∧ a2 = b2 ∧ a3 = b3 ∧ a4 = b4 ∧ a5 = b5 ∧ a6 = b6 ∧ a7 = b7 ∧ a8 = b8 ∧ a9 = b9 := by
  cases h; exact ⟨rfl, rfl, rfl, rfl, rfl, rfl, rfl, rfl, rfl⟩
theorem pr9 {α1 α2 α3 α4 α5 α6 α7 α8 α9 : Type} {a1 b1 : α1} {a2 b2 : α2} {a3 b3 : α3} {a4 b4 : α4} {a5 b5 : α5} {a6 b6 : α6} {a7 b7 : α7} {a8 b8 : α8} {a9 b9 : α9} (h : (a1, a2, a3, a4, a5, a6, a7, a8, a9) = (b1, b2, b3, b4, b5, b6, b7, b8, b9)) : a1 = b1 ∧ a2 = b2 ∧ a3 = b3 ∧ a4 = b4 ∧ a5 = b5 ∧ a6 = b6 ∧ a7 = b7 ∧ a8 = b8 ∧ a9 = b9 := by
  cases h; exact ⟨rfl, rfl, rfl, rfl, rfl, rfl, rfl, rfl, rfl⟩
def lpf9 {α1 α2 α3 α4 α5 α6 α7 α8 α9 E : Type} (step : α1 → α2 → α3 → α4 → α5 → α6 → α7 → α8 → α9 → Option ((α1 × α2 × α3 × α4 × α5 × α6 × α7 × α8 × α9) ⊕ E)) (n : Nat) (a1 : α1) (a2 : α2) (a3 : α3) (a4 : α4) (a5 : α5) (a6 : α6) (a7 : α7) (a8 : α8) (a9 : α9) : Option E := lpf (fun q => step q.1 q.2.1 q.2.2.1 q.2.2.2.1 q.2.2.2.2.1 q.2.2.2.2.2.1 q.2.2.2.2.2.2.1 q.2.2.2.2.2.2.2.1 q.2.2.2.2.2.2.2.2) n (a1, a2, a3, a4, a5, a6, a7, a8, a9)
noncomputable def lq9 {α1 α2 α3 α4 α5 α6 α7 α8 α9 E : Type} (step : α1 → α2 → α3 → α4 → α5 → α6 → α7 → α8 → α9 → Option ((α1 × α2 × α3 × α4 × α5 × α6 × α7 × α8 × α9) ⊕ E)) (a1 : α1) (a2 : α2) (a3 : α3) (a4 : α4) (a5 : α5) (a6 : α6) (a7 : α7) (a8 : α8) (a9 : α9) : Option E := lp (fun q => step q.1 q.2.1 q.2.2.1 q.2.2.2.1 q.2.2.2.2.1 q.2.2.2.2.2.1 q.2.2.2.2.2.2.1 q.2.2.2.2.2.2.2.1 q.2.2.2.2.2.2.2.2) (a1, a2, a3, a4, a5, a6, a7, a8, a9)
theorem lq9_ex {α1 α2 α3 α4 α5 α6 α7 α8 α9 E : Type} {step : α1 → α2 → α3 → α4 → α5 → α6 → α7 → α8 → α9 → Option ((α1 × α2 × α3 × α4 × α5 × α6 × α7 × α8 × α9) ⊕ E)} {a1 : α1} {a2 : α2} {a3 : α3} {a4 : α4} {a5 : α5} {a6 : α6} {a7 : α7} {a8 : α8} {a9 : α9} {e : E} (h : lq9 step a1 a2 a3 a4 a5 a6 a7 a8 a9 = some e) : ∃ n, lpf9 step n a1 a2 a3 a4 a5 a6 a7 a8 a9 = some e := lp_ex h
theorem lpf9_0 {α1 α2 α3 α4 α5 α6 α7 α8 α9 E : Type} {step : α1 → α2 → α3 → α4 → α5 → α6 → α7 → α8 → α9 → Option ((α1 × α2 × α3 × α4 × α5 × α6 × α7 × α8 × α9) ⊕ E)} {a1 : α1} {a2 : α2} {a3 : α3} {a4 : α4} {a5 : α5} {a6 : α6} {a7 : α7} {a8 : α8} {a9 : α9} {e : E} (h : lpf9 step 0 a1 a2 a3 a4 a5 a6 a7 a8 a9 = some e) : False := by cases h
theorem lpf9_s {α1 α2 α3 α4 α5 α6 α7 α8 α9 E : Type} {step : α1 → α2 → α3 → α4 → α5 → α6 → α7 → α8 → α9 → Option ((α1 × α2 × α3 × α4 × α5 × α6 × α7 × α8 × α9) ⊕ E)} {n : Nat} {a1 : α1} {a2 : α2} {a3 : α3} {a4 : α4} {a5 : α5} {a6 : α6} {a7 : α7} {a8 : α8} {a9 : α9} {e : E} (h : lpf9 step (n + 1) a1 a2 a3 a4 a5 a6 a7 a8 a9 = some e) : ∃ q, step a1 a2 a3 a4 a5 a6 a7 a8 a9 = some q ∧ ((∃ b1 b2 b3 b4 b5 b6 b7 b8 b9, q = .inl (b1, b2, b3, b4, b5, b6, b7, b8, b9) ∧ lpf9 step n b1 b2 b3 b4 b5 b6 b7 b8 b9 = some e) ∨ q = .inr e) := by
  unfold lpf9 at h
  rw [lpf] at h
  cases hs : step a1 a2 a3 a4 a5 a6 a7 a8 a9 with
  | none => rw [hs] at h; cases h
  | some q =>
    rw [hs] at h
    cases q with
    | inl w => exact ⟨_, rfl, Or.inl ⟨w.1, w.2.1, w.2.2.1, w.2.2.2.1, w.2.2.2.2.1, w.2.2.2.2.2.1, w.2.2.2.2.2.2.1, w.2.2.2.2.2.2.2.1, w.2.2.2.2.2.2.2.2, rfl, h⟩⟩
    | inr e1 => exact ⟨_, rfl, Or.inr (by rw [Option.some.inj h])⟩
theorem lpc9 {α1 α2 α3 α4 α5 α6 α7 α8 α9 E : Type} {step : α1 → α2 → α3 → α4 → α5 → α6 → α7 → α8 → α9 → Option ((α1 × α2 × α3 × α4 × α5 × α6 × α7 × α8 × α9) ⊕ E)} {n : Nat} {a1 : α1} {a2 : α2} {a3 : α3} {a4 : α4} {a5 : α5} {a6 : α6} {a7 : α7} {a8 : α8} {a9 : α9} {q : (α1 × α2 × α3 × α4 × α5 × α6 × α7 × α8 × α9) ⊕ E} {e : E} (h : some (Sum.inl (a1, a2, a3, a4, a5, a6, a7, a8, a9)) = some q) (hq : (∃ b1 b2 b3 b4 b5 b6 b7 b8 b9, q = .inl (b1, b2, b3, b4, b5, b6, b7, b8, b9) ∧ lpf9 step n b1 b2 b3 b4 b5 b6 b7 b8 b9 = some e) ∨ q = .inr e) : lpf9 step n a1 a2 a3 a4 a5 a6 a7 a8 a9 = some e := by
  cases h
  rcases hq with ⟨b1, b2, b3, b4, b5, b6, b7, b8, b9, h1, h2⟩ | h1
  · cases h1; exact h2
  · cases h1
theorem lpx9 {α1 α2 α3 α4 α5 α6 α7 α8 α9 E : Type} {step : α1 → α2 → α3 → α4 → α5 → α6 → α7 → α8 → α9 → Option ((α1 × α2 × α3 × α4 × α5 × α6 × α7 × α8 × α9) ⊕ E)} {n : Nat} {q : (α1 × α2 × α3 × α4 × α5 × α6 × α7 × α8 × α9) ⊕ E} {e e1 : E} (h : some (Sum.inr e1) = some q) (hq : (∃ b1 b2 b3 b4 b5 b6 b7 b8 b9, q = .inl (b1, b2, b3, b4, b5, b6, b7, b8, b9) ∧ lpf9 step n b1 b2 b3 b4 b5 b6 b7 b8 b9 = some e) ∨ q = .inr e) : e1 = e := by
  cases h
  rcases hq with ⟨b1, b2, b3, b4, b5, b6, b7, b8, b9, h1, h2⟩ | h1
  · cases h1
  · cases h1; rfl
def B10 {α1 α2 α3 α4 α5 α6 α7 α8 α9 α10 γ : Type} (x : Option (α1 × α2 × α3 × α4 × α5 × α6 × α7 × α8 × α9 × α10)) (f : α1 → α2 → α3 → α4 → α5 → α6 → α7 → α8 → α9 → α10 → Option γ) : Option γ := x.bind fun q => f q.1 q.2.1 q.2.2.1 q.2.2.2.1 q.2.2.2.2.1 q.2.2.2.2.2.1 q.2.2.2.2.2.2.1 q.2.2.2.2.2.2.2.1 q.2.2.2.2.2.2.2.2.1 q.2.2.2.2.2.2.2.2.2
theorem B10_some {α1 α2 α3 α4 α5 α6 α7 α8 α9 α10 γ : Type} (a1 : α1) (a2 : α2) (a3 : α3) (a4 : α4) (a5 : α5) (a6 : α6) (a7 : α7) (a8 : α8) (a9 : α9) (a10 : α10) (f : α1 → α2 → α3 → α4 → α5 → α6 → α7 → α8 → α9 → α10 → Option γ) : B10 (some (a1, a2, a3, a4, a5, a6, a7, a8, a9, a10)) f = f a1 a2 a3 a4 a5 a6 a7 a8 a9 a10 := rfl
theorem B10_none {α1 α2 α3 α4 α5 α6 α7 α8 α9 α10 γ : Type} (f : α1 → α2 → α3 → α4 → α5 → α6 → α7 → α8 → α9 → α10 → Option γ) : B10 none f = none := rfl
theorem b10 {α1 α2 α3 α4 α5 α6 α7 α8 α9 α10 γ : Type} {x : Option (α1 × α2 × α3 × α4 × α5 × α6 × α7 × α8 × α9 × α10)} {f : α1 → α2 → α3 → α4 → α5 → α6 → α7 → α8 → α9 → α10 → Option γ} {y : γ} (h : B10 x f = some y) : ∃ a1 a2 a3 a4 a5 a6 a7 a8 a9 a10, x = some (a1, a2, a3, a4, a5, a6, a7, a8, a9, a10) ∧ f a1 a2 a3 a4 a5 a6 a7 a8 a9 a10 = some y := by
  cases hx : x with
  | none => rw [hx] at h; cases h
  | some q => rw [hx] at h; exact ⟨q.1, q.2.1, q.2.2.1, q.2.2.2.1, q.2.2.2.2.1, q.2.2.2.2.2.1, q.2.2.2.2.2.2.1, q.2.2.2.2.2.2.2.1, q.2.2.2.2.2.2.2.2.1, q.2.2.2.2.2.2.2.2.2, rfl, h⟩
def BR10 {α1 α2 α3 α4 α5 α6 α7 α8 α9 α10 ρ γ : Type} (x : Option ((α1 × α2 × α3 × α4 × α5 × α6 × α7 × α8 × α9 × α10) ⊕ ρ)) (f : α1 → α2 → α3 → α4 → α5 → α6 → α7 → α8 → α9 → α10 → Option γ) (g : ρ → Option γ) : Option γ := x.bind fun w => match w with
  | .inl q => f q.1 q.2.1 q.2.2.1 q.2.2.2.1 q.2.2.2.2.1 q.2.2.2.2.2.1 q.2.2.2.2.2.2.1 q.2.2.2.2.2.2.2.1 q.2.2.2.2.2.2.2.2.1 q.2.2.2.2.2.2.2.2.2
  | .inr r => g r
theorem BR10_l {α1 α2 α3 α4 α5 α6 α7 α8 α9 α10 ρ γ : Type} (a1 : α1) (a2 : α2) (a3 : α3) (a4 : α4) (a5 : α5) (a6 : α6) (a7 : α7) (a8 : α8) (a9 : α9) (a10 : α10) (f : α1 → α2 → α3 → α4 → α5 → α6 → α7 → α8 → α9 → α10 → Option γ) (g : ρ → Option γ) : BR10 (some (.inl (a1, a2, a3, a4, a5, a6, a7, a8, a9, a10))) f g = f a1 a2 a3 a4 a5 a6 a7 a8 a9 a10 := rfl
theorem BR10_r {α1 α2 α3 α4 α5 α6 α7 α8 α9 α10 ρ γ : Type} (r : ρ) (f : α1 → α2 → α3 → α4 → α5 → α6 → α7 → α8 → α9 → α10 → Option γ) (g : ρ → Option γ) : BR10 (some (.inr r)) f g = g r := rfl
theorem bR10 {α1 α2 α3 α4 α5 α6 α7 α8 α9 α10 ρ γ : Type} {x : Option ((α1 × α2 × α3 × α4 × α5 × α6 × α7 × α8 × α9 × α10) ⊕ ρ)} {f : α1 → α2 → α3 → α4 → α5 → α6 → α7 → α8 → α9 → α10 → Option γ} {g : ρ → Option γ} {y : γ} (h : BR10 x f g = some y) : ∃ q, x = some q ∧ ((∃ a1 a2 a3 a4 a5 a6 a7 a8 a9 a10, q = .inl (a1, a2, a3, a4, a5, a6, a7, a8, a9, a10) ∧ f a1 a2 a3 a4 a5 a6 a7 a8 a9 a10 = some y) ∨ ∃ r, q = .inr r ∧ g r = some y) := by
  cases hx : x with
  | none => rw [hx] at h; cases h
  | some w =>
    rw [hx] at h
    cases w with
    | inl q => exact ⟨_, rfl, Or.inl ⟨q.1, q.2.1, q.2.2.1, q.2.2.2.1, q.2.2.2.2.1, q.2.2.2.2.2.1, q.2.2.2.2.2.2.1, q.2.2.2.2.2.2.2.1, q.2.2.2.2.2.2.2.2.1, q.2.2.2.2.2.2.2.2.2, rfl, h⟩⟩
    | inr r => exact ⟨_, rfl, Or.inr ⟨r, rfl, h⟩⟩
theorem inj10 {α1 α2 α3 α4 α5 α6 α7 α8 α9 α10 : Type} {a1 b1 : α1} {a2 b2 : α2} {a3 b3 : α3} {a4 b4 : α4} {a5 b5 : α5} {a6 b6 : α6} {a7 b7 : α7} {a8 b8 : α8} {a9 b9 : α9} {a10 b10 : α10} (h : some (a1, a2, a3, a4, a5, a6, a7, a8, a9, a10) = some (b1, b2, b3, b4, b5, b6, b7, b8, b9, b10)) : a1 = b1 ∧ a2 = b2 ∧ a3 = b3 ∧ a4 = b4 ∧ a5 = b5 ∧ a6 = b6 ∧ a7 = b7 ∧ a8 = b8 ∧ a9 = b9 ∧ a10 = b10 := by
  cases h; exact ⟨rfl, rfl, rfl, rfl, rfl, rfl, rfl, rfl, rfl, rfl⟩
theorem pr10 {α1 α2 α3 α4 α5 α6 α7 α8 α9 α10 : Type} {a1 b1 : α1} {a2 b2 : α2} {a3 b3 : α3} {a4 b4 : α4} {a5 b5 : α5} {a6 b6 : α6} {a7 b7 : α7} {a8 b8 : α8} {a9 b9 : α9} {a10 b10 : α10} (h : (a1, a2, a3, a4, a5, a6, a7, a8, a9, a10) = (b1, b2, b3, b4, b5, b6, b7, b8, b9, b10)) : a1 = b1 ∧ a2 = b2 ∧ a3 = b3 ∧ a4 = b4 ∧ a5 = b5 ∧ a6 = b6 ∧ a7 = b7 ∧ a8 = b8 ∧ a9 = b9 ∧ a10 = b10 := by
  cases h; exact ⟨rfl, rfl, rfl, rfl, rfl, rfl, rfl, rfl, rfl, rfl⟩
def lpf10 {α1 α2 α3 α4 α5 α6 α7 α8 α9 α10 E : Type} (step : α1 → α2 → α3 → α4 → α5 → α6 → α7 → α8 → α9 → α10 → Option ((α1 × α2 × α3 × α4 × α5 × α6 × α7 × α8 × α9 × α10) ⊕ E)) (n : Nat) (a1 : α1) (a2 : α2) (a3 : α3) (a4 : α4) (a5 : α5) (a6 : α6) (a7 : α7) (a8 : α8) (a9 : α9) (a10 : α10) : Option E := lpf (fun q => step q.1 q.2.1 q.2.2.1 q.2.2.2.1 q.2.2.2.2.1 q.2.2.2.2.2.1 q.2.2.2.2.2.2.1 q.2.2.2.2.2.2.2.1 q.2.2.2.2.2.2.2.2.1 q.2.2.2.2.2.2.2.2.2) n (a1, a2, a3, a4, a5, a6, a7, a8, a9, a10)
noncomputable def lq10 {α1 α2 α3 α4 α5 α6 α7 α8 α9 α10 E : Type} (step : α1 → α2 → α3 → α4 → α5 → α6 → α7 → α8 → α9 → α10 → Option ((α1 × α2 × α3 × α4 × α5 × α6 × α7 × α8 × α9 × α10) ⊕ E)) (a1 : α1) (a2 : α2) (a3 : α3) (a4 : α4) (a5 : α5) (a6 : α6) (a7 : α7) (a8 : α8) (a9 : α9) (a10 : α10) : Option E := lp (fun q => step q.1 q.2.1 q.2.2.1 q.2.2.2.1 q.2.2.2.2.1 q.2.2.2.2.2.1 q.2.2.2.2.2.2.1 q.2.2.2.2.2.2.2.1 q.2.2.2.2.2.2.2.2.1 q.2.2.2.2.2.2.2.2.2) (a1, a2, a3, a4, a5, a6, a7, a8, a9, a10)
theorem lq10_ex {α1 α2 α3 α4 α5 α6 α7 α8 α9 α10 E : Type} {step : α1 → α2 → α3 → α4 → α5 → α6 → α7 → α8 → α9 → α10 → Option ((α1 × α2 × α3 × α4 × α5 × α6 × α7 × α8 × α9 × α10) ⊕ E)} {a1 : α1} {a2 : α2} {a3 : α3} {a4 : α4} {a5 : α5} {a6 : α6} {a7 : α7} {a8 : α8} {a9 : α9} {a10 : α10} {e : E} (h : lq10 step a1 a2 a3 a4 a5 a6 a7 a8 a9 a10 = some e) : ∃ n, lpf10 step n a1 a2 a3 a4 a5 a6 a7 a8 a9 a10 = some e := lp_ex h
theorem lpf10_0 {α1 α2 α3 α4 α5 α6 α7 α8 α9 α10 E : Type} {step : α1 → α2 → α3 → α4 → α5 → α6 → α7 → α8 → α9 → α10 → Option ((α1 × α2 × α3 × α4 × α5 × α6 × α7 × α8 × α9 × α10) ⊕ E)} {a1 : α1} {a2 : α2} {a3 : α3} {a4 : α4} {a5 : α5} {a6 : α6} {a7 : α7} {a8 : α8} {a9 : α9} {a10 : α10} {e : E} (h : lpf10 step 0 a1 a2 a3 a4 a5 a6 a7 a8 a9 a10 = some e) : False := by cases h
theorem lpf10_s {α1 α2 α3 α4 α5 α6 α7 α8 α9 α10 E : Type} {step : α1 → α2 → α3 → α4 → α5 → α6 → α7 → α8 → α9 → α10 → Option ((α1 × α2 × α3 × α4 × α5 × α6 × α7 × α8 × α9 × α10) ⊕ E)} {n : Nat} {a1 : α1} {a2 : α2} {a3 : α3} {a4 : α4} {a5 : α5} {a6 : α6} {a7 : α7} {a8 : α8} {a9 : α9} {a10 : α10} {e : E} (h : lpf10 step (n + 1) a1 a2 a3 a4 a5 a6 a7 a8 a9 a10 = some e) : ∃ q, step a1 a2 a3 a4 a5 a6 a7 a8 a9 a10 = some q ∧ ((∃ b1 b2 b3 b4 b5 b6 b7 b8 b9 b10, q = .inl (b1, b2, b3, b4, b5, b6, b7, b8, b9, b10) ∧ lpf10 step n b1 b2 b3 b4 b5 b6 b7 b8 b9 b10 = some e) ∨ q = .inr e) := by
  unfold lpf10 at h
  rw [lpf] at h
  cases hs : step a1 a2 a3 a4 a5 a6 a7 a8 a9 a10 with
  | none => rw [hs] at h; cases h
  | some q =>
    rw [hs] at h
    cases q with
    | inl w => exact ⟨_, rfl, Or.inl ⟨w.1, w.2.1, w.2.2.1, w.2.2.2.1, w.2.2.2.2.1, w.2.2.2.2.2.1, w.2.2.2.2.2.2.1, w.2.2.2.2.2.2.2.1, w.2.2.2.2.2.2.2.2.1, w.2.2.2.2.2.2.2.2.2, rfl, h⟩⟩
    | inr e1 => exact ⟨_, rfl, Or.inr (by rw [Option.some.inj h])⟩
theorem lpc10 {α1 α2 α3 α4 α5 α6 α7 α8 α9 α10 E : Type} {step : α1 → α2 → α3 → α4 → α5 → α6 → α7 → α8 → α9 → α10 → Option ((α1 × α2 × α3 × α4 × α5 × α6 × α7 × α8 × α9 × α10) ⊕ E)} {n : Nat} {a1 : α1} {a2 : α2} {a3 : α3} {a4 : α4} {a5 : α5} {a6 : α6} {a7 : α7} {a8 : α8} {a9 : α9} {a10 : α10} {q : (α1 × α2 × α3 × α4 × α5 × α6 × α7 × α8 × α9 × α10) ⊕ E} {e : E} (h : some (Sum.inl (a1, a2, a3, a4, a5, a6, a7, a8, a9, a10)) = some q) (hq : (∃ b1 b2 b3 b4 b5 b6 b7 b8 b9 b10, q = .inl (b1, b2, b3, b4, b5, b6, b7, b8, b9, b10) ∧ lpf10 step n b1 b2 b3 b4 b5 b6 b7 b8 b9 b10 = some e) ∨ q = .inr e) : lpf10 step n a1 a2 a3 a4 a5 a6 a7 a8 a9 a10 = some e := by
  cases h
  rcases hq with ⟨b1, b2, b3, b4, b5, b6, b7, b8, b9, b10, h1, h2⟩ | h1
  · cases h1; exact h2
  · cases h1
theorem lpx10 {α1 α2 α3 α4 α5 α6 α7 α8 α9 α10 E : Type} {step : α1 → α2 → α3 → α4 → α5 → α6 → α7 → α8 → α9 → α10 → Option ((α1 × α2 × α3 × α4 × α5 × α6 × α7 × α8 × α9 × α10) ⊕ E)} {n : Nat} {q : (α1 × α2 × α3 × α4 × α5 × α6 × α7 × α8 × α9 × α10) ⊕ E} {e e1 : E} (h : some (Sum.inr e1) = some q) (hq : (∃ b1 b2 b3 b4 b5 b6 b7 b8 b9 b10, q = .inl (b1, b2, b3, b4, b5, b6, b7, b8, b9, b10) ∧ lpf10 step n b1 b2 b3 b4 b5 b6 b7 b8 b9 b10 = some e) ∨ q = .inr e) : e1 = e := by
  cases h
  rcases hq with ⟨b1, b2, b3, b4, b5, b6, b7, b8, b9, b10, h1, h2⟩ | h1
  · cases h1
  · cases h1; rfl
