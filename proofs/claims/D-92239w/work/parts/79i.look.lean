/-! plain law: look, orders -/
def dfsP : Nat → List Nat → List (List Nat)
  | 0, _ => [[]]
  | k + 1, r => r.flatMap fun x => (dfsP k (r.erase x)).map fun o => x :: o
/-- the next order of m -/
def fdn (p : List Nat) : Nat → Option Nat
  | 0 => none
  | k + 1 => if p.getD k 0 ≤ p.getD (k + 1) 0 then some k else fdn p k
def fjn (p : List Nat) (i : Nat) : Nat → Nat
  | 0 => 0
  | k + 1 => if p.getD i 0 ≤ p.getD (k + 1) 0 then k + 1 else fjn p i k
def rvn : Nat → List Nat → Nat → Nat → List Nat
  | 0, p, _, _ => p
  | f + 1, p, a, b => if b ≤ a then p else rvn f ((p.set a (p.getD b 0)).set b (p.getD a 0)) (a + 1) (b - 1)
def nxtP (m : Nat) (p : List Nat) : Option (List Nat) :=
  match fdn p (m - 1) with
  | none => none
  | some i => some (rvn 6 ((p.set i (p.getD (fjn p i (m - 1)) 0)).set (fjn p i (m - 1)) (p.getD i 0)) (i + 1) (m - 1))
def chkP (m : Nat) : List (List Nat) → Bool
  | [] => false
  | [p] => decide (nxtP m p = none) && decide (p.length = m) && p.all (fun x => decide (x < m))
  | p :: q :: t => decide (nxtP m p = some q) && decide (p.length = m) && p.all (fun x => decide (x < m)) && chkP m (q :: t)
theorem chk_0 : chkP 0 (dfsP 0 (List.range 0)) = true := by decide +kernel
theorem chk_1 : chkP 1 (dfsP 1 (List.range 1)) = true := by decide +kernel
theorem chk_2 : chkP 2 (dfsP 2 (List.range 2)) = true := by decide +kernel
theorem chk_3 : chkP 3 (dfsP 3 (List.range 3)) = true := by decide +kernel
theorem chk_4 : chkP 4 (dfsP 4 (List.range 4)) = true := by decide +kernel
theorem chk_5 : chkP 5 (dfsP 5 (List.range 5)) = true := by decide +kernel
theorem chk_6 : chkP 6 (dfsP 6 (List.range 6)) = true := by decide +kernel
theorem chk_all {m : Nat} (hm : m ≤ 6) : chkP m (dfsP m (List.range m)) = true := by
  have : m = 0 ∨ m = 1 ∨ m = 2 ∨ m = 3 ∨ m = 4 ∨ m = 5 ∨ m = 6 := by omega
  rcases this with rfl | rfl | rfl | rfl | rfl | rfl | rfl
  · exact chk_0
  · exact chk_1
  · exact chk_2
  · exact chk_3
  · exact chk_4
  · exact chk_5
  · exact chk_6
theorem head_P : ∀ (m : Nat) (r : List Nat), r.length = m → (dfsP m r).head? = some r
  | 0, r, h => by
    rw [List.length_eq_zero_iff.mp h]
    rfl
  | m + 1, [], h => by cases h
  | m + 1, x :: r, h => by
    have h1 : r.length = m := by simpa using h
    have h2 := head_P m r h1
    have h3 : (x :: r).erase x = r := by simp
    rw [dfsP, List.flatMap_cons, h3]
    cases hd : dfsP m r with
    | nil => rw [hd] at h2; cases h2
    | cons y t =>
      rw [hd] at h2
      cases h2
      rfl
theorem fm_congr {α β : Type} {f g : α → List β} : ∀ {l : List α}, (∀ x, x ∈ l → f x = g x) → l.flatMap f = l.flatMap g
  | [], _ => rfl
  | x :: l, h => by
    rw [List.flatMap_cons, List.flatMap_cons, h x (List.mem_cons_self ..), fm_congr (fun y hy => h y (List.mem_cons_of_mem _ hy))]
/-- names put in for the numbers -/
theorem dfsP_map (f : Nat → Nat) : ∀ (m : Nat) (r : List Nat), (∀ x, x ∈ r → ∀ y, y ∈ r → f x = f y → x = y) → dfsP m (r.map f) = (dfsP m r).map fun o => o.map f
  | 0, _, _ => rfl
  | m + 1, r, hf => by
    rw [dfsP, dfsP]
    have he : ∀ x, x ∈ r → (r.map f).erase (f x) = (r.erase x).map f := by
      intro x hx
      clear m
      induction r with
      | nil => cases hx
      | cons y r ih =>
        rw [List.map_cons]
        by_cases q : y = x
        · subst q
          simp
        · have q2 : f y ≠ f x := fun g => q (hf y (List.mem_cons_self ..) x hx g)
          have hx2 : x ∈ r := by
            rcases List.mem_cons.mp hx with g | g
            · exact absurd g.symm q
            · exact g
          rw [List.erase_cons_tail (by simpa using q2), List.erase_cons_tail (by simpa using q), List.map_cons, ih (fun a ha b hb => hf a (List.mem_cons_of_mem _ ha) b (List.mem_cons_of_mem _ hb)) hx2]
    rw [List.flatMap_map, List.map_flatMap]
    refine fm_congr fun x hx => ?_
    rw [he x hx, dfsP_map f m (r.erase x) (fun a ha b hb => hf a (List.mem_of_mem_erase ha) b (List.mem_of_mem_erase hb)), List.map_map, List.map_map]
    rfl
section Reach
variable {e : Nat → Nat → Prop} {w : Nat → Nat → Nat → Nat} {a s : Nat}
theorem Pth.back {P : Nat → Prop} (hs : ∀ x y, x < 8 → y < 8 → e x y → e y x) (hP : ∀ x y, x < 8 → y < 8 → e x y → P x → P y) : ∀ n y t, y < 8 → Pth e w a s n y t → P y → P a := by
  intro n
  induction n with
  | zero =>
    intro y t _ hp h
    rw [← hp.1]
    exact h
  | succ n ih =>
    intro y t hy hp h
    obtain ⟨x, u, hx, hp, he, -⟩ := hp
    exact ih x u hx hp (hP y x hy hx (hs x y hx hy he) h)
theorem Pth.fwd {P : Nat → Prop} (hP : ∀ x y, x < 8 → y < 8 → e x y → P x → P y) : ∀ n y t, y < 8 → Pth e w a s n y t → P a → P y := by
  intro n
  induction n with
  | zero =>
    intro y t _ hp h
    rw [hp.1]
    exact h
  | succ n ih =>
    intro y t hy hp h
    obtain ⟨x, u, hx, hp, he, -⟩ := hp
    exact hP x y hx hy he (ih x u hx hp h)
end Reach
