/-! plain law: pairs, the order of trying -/
abbrev Ar := Nat → Int32
abbrev Ps := Nat × Nat × Ar
abbrev Bs := Option (Nat × Ar)
def bt (S j : Nat) : Nat := S / 2 ^ j % 2
def lowb (S : Nat) : Nat := if bt S 0 = 1 then 0 else if bt S 1 = 1 then 1 else if bt S 2 = 1 then 2 else if bt S 3 = 1 then 3 else if bt S 4 = 1 then 4 else 5
def stp (pe : Nat → Nat → Option Nat) (s : Ps) (d : Nat) : Option Ps :=
  if s.1 = 0 then (if d = 0 then some s else none)
  else if d ≠ lowb s.1 ∧ bt s.1 d = 1 then
    match pe (lowb s.1) d with
    | none => none
    | some t => some (s.1 - 2 ^ lowb s.1 - 2 ^ d, max s.2.1 t, upd (upd s.2.2 (lowb s.1) (nI d)) d (nI (lowb s.1)))
  else none
def itr {α : Type} (f : Nat → α → α) : Nat → α → α
  | 0, b => b
  | j + 1, b => f j (itr f j b)
def upB (b : Bs) (s : Ps) : Bs :=
  match b with
  | none => some s.2
  | some r => if s.2.1 < r.1 then some s.2 else some r
def oB (g : Ps → Bs → Bs) (o : Option Ps) (b : Bs) : Bs :=
  match o with
  | none => b
  | some s => g s b
def fo (pe : Nat → Nat → Option Nat) : Nat → Ps → Bs → Bs
  | 0, s, b => upB b s
  | m + 1, s, b => itr (fun d b => oB (fo pe m) (stp pe s d) b) 6 b
theorem itr_id {α : Type} {f : Nat → α → α} {b : α} : ∀ {n : Nat}, (∀ j, j < n → f j b = b) → itr f n b = b
  | 0, _ => rfl
  | n + 1, h => by
    rw [itr, itr_id (fun j hj => h j (by omega))]
    exact h n (by omega)
theorem itr_add {α : Type} (f : Nat → α → α) (m : Nat) (b : α) : ∀ n, itr f (m + n) b = itr (fun j => f (m + j)) n (itr f m b)
  | 0 => rfl
  | n + 1 => by
    show f (m + n) (itr f (m + n) b) = f (m + n) _
    rw [itr_add f m b n]
theorem itr_eq {α : Type} {f g : Nat → α → α} {b : α} : ∀ {n : Nat}, (∀ j b, j < n → f j b = g j b) → itr f n b = itr g n b
  | 0, _ => rfl
  | n + 1, h => by
    rw [itr, itr, itr_eq (fun j b hj => h j b (by omega)), h n _ (by omega)]
theorem itr_mul {α : Type} (F : Nat → Nat → α → α) {k : Nat} (hk : 0 < k) (b : α) : ∀ n, itr (fun c => F (c / k) (c % k)) (k * n) b = itr (fun d b => itr (F d) k b) n b
  | 0 => rfl
  | n + 1 => by
    rw [Nat.mul_add, Nat.mul_one, itr_add, itr_mul F hk b n, itr]
    refine itr_eq fun j b hj => ?_
    rw [Nat.mul_add_div hk, Nat.div_eq_of_lt hj, Nat.mul_add_mod, Nat.mod_eq_of_lt hj, Nat.add_zero]
theorem stp_0 {pe : Nat → Nat → Option Nat} {a : Nat} {r : Ar} (d : Nat) : stp pe (0, a, r) d = if d = 0 then some (0, a, r) else none := by
  unfold stp
  rw [if_pos rfl]
theorem fo_0 {pe : Nat → Nat → Option Nat} {a : Nat} {r : Ar} : ∀ (m : Nat) (b : Bs), fo pe m (0, a, r) b = upB b (0, a, r)
  | 0, _ => rfl
  | m + 1, b => by
    rw [fo]
    show oB (fo pe m) (stp pe (0, a, r) 5) (oB (fo pe m) (stp pe (0, a, r) 4) (oB (fo pe m) (stp pe (0, a, r) 3) (oB (fo pe m) (stp pe (0, a, r) 2) (oB (fo pe m) (stp pe (0, a, r) 1) (oB (fo pe m) (stp pe (0, a, r) 0) b))))) = _
    rw [stp_0, stp_0, stp_0, stp_0, stp_0, stp_0]
    exact fo_0 m b
theorem stp_ge {pe : Nat → Nat → Option Nat} {s s' : Ps} {d : Nat} (h : stp pe s d = some s') : s.2.1 ≤ s'.2.1 := by
  unfold stp at h
  by_cases h0 : s.1 = 0
  · rw [if_pos h0] at h
    by_cases hd : d = 0
    · rw [if_pos hd] at h; cases h; exact Nat.le_refl _
    · rw [if_neg hd] at h; cases h
  · rw [if_neg h0] at h
    by_cases h1 : d ≠ lowb s.1 ∧ bt s.1 d = 1
    · rw [if_pos h1] at h
      cases hp : pe (lowb s.1) d with
      | none => rw [hp] at h; cases h
      | some t =>
        rw [hp] at h
        cases h
        exact Nat.le_max_left _ _
    · rw [if_neg h1] at h; cases h
theorem fo_cut {pe : Nat → Nat → Option Nat} {v : Nat} {r : Ar} : ∀ (m : Nat) (s : Ps), v ≤ s.2.1 → fo pe m s (some (v, r)) = some (v, r)
  | 0, s, h => by
    show (if s.2.1 < v then some s.2 else some (v, r)) = _
    rw [if_neg (by omega)]
  | m + 1, s, h => by
    rw [fo]
    refine itr_id fun j hj => ?_
    cases hs : stp pe s j with
    | none => rfl
    | some s' => exact fo_cut m s' (Nat.le_trans h (stp_ge hs))
theorem lowb_all : ∀ S, S < 64 → 0 < S → lowb S < 6 ∧ bt S (lowb S) = 1 ∧ ∀ j, j < 6 → j < lowb S → bt S j = 0 := by decide +kernel
theorem clr_a1 : ∀ S, S < 64 → ∀ x, x < 6 → ∀ y, y < 6 → (x ≠ y ∧ bt S x = 1 ∧ bt S y = 1) → nI S &&& (((1 <<< (nI x &&& 31)) ||| (1 <<< (nI y &&& 31))) ^^^ (-1)) = nI (S - 2 ^ x - 2 ^ y) := by decide +kernel
theorem clr_a2 : ∀ S, S < 64 → ∀ x, x < 6 → ∀ y, y < 6 → (x ≠ y ∧ bt S x = 1 ∧ bt S y = 1) → pop (S - 2 ^ x - 2 ^ y) 6 + 2 = pop S 6 := by decide +kernel
def clr_f (q y j : Nat) : Bool := decide (q % 6 = y) || decide (bt (q / 6) (q % 6) = 0) || decide (bt (q / 6) y = 0) || decide (j = q % 6) || decide (j = y) || decide (bt (q / 6 - 2 ^ (q % 6) - 2 ^ y) j = bt (q / 6) j)
theorem clr_b1 : ∀ q, q < 384 → ∀ y, y < 6 → ∀ j, j < 6 → clr_f q y j = true := by decide +kernel
theorem clr_bt {S x y j : Nat} (hS : S < 64) (hx : x < 6) (hy : y < 6) (hj : j < 6) (h : x ≠ y ∧ bt S x = 1 ∧ bt S y = 1 ∧ j ≠ x ∧ j ≠ y) : bt (S - 2 ^ x - 2 ^ y) j = bt S j := by
  have h1 : (6 * S + x) / 6 = S := by omega
  have h2 : (6 * S + x) % 6 = x := by omega
  have := clr_b1 (6 * S + x) (by omega) y hy j hj
  unfold clr_f at this
  rw [h1, h2] at this
  simp only [Bool.or_eq_true, decide_eq_true_eq] at this
  omega
theorem pop6_0 : ∀ S, S < 64 → pop S 6 = 0 → S = 0 := by decide +kernel
theorem pop6_14 : ∀ S, S < 64 → pop S 14 = pop S 6 := by decide +kernel
theorem bt_le (S j : Nat) : bt S j = 0 ∨ bt S j = 1 := by unfold bt; omega
theorem btI {S j : Nat} (hS : S < 64) (hj : j < 6) : (nI S >>> (nI j &&& 31)) &&& 1 = nI (bt S j) := bit_is (by omega) (by omega)
theorem stp_s {pe : Nat → Nat → Option Nat} {S a d t : Nat} {r : Ar} (h0 : 0 < S) (hd : d ≠ lowb S) (hb : bt S d = 1) (hp : pe (lowb S) d = some t) : stp pe (S, a, r) d = some (S - 2 ^ lowb S - 2 ^ d, max a t, upd (upd r (lowb S) (nI d)) d (nI (lowb S))) := by
  unfold stp
  rw [if_neg (show ¬ S = 0 by omega), if_pos ⟨hd, hb⟩]
  dsimp only
  rw [hp]
theorem stp_n {pe : Nat → Nat → Option Nat} {S a d : Nat} {r : Ar} (h0 : 0 < S) (h : d = lowb S ∨ bt S d = 0 ∨ pe (lowb S) d = none) : stp pe (S, a, r) d = none := by
  unfold stp
  rw [if_neg (show ¬ S = 0 by omega)]
  by_cases h1 : d ≠ lowb S ∧ bt S d = 1
  · rw [if_pos h1]
    dsimp only
    rcases h with h | h | h
    · exact absurd h h1.1
    · rw [h1.2] at h; cases h
    · rw [h]
  · rw [if_neg h1]
