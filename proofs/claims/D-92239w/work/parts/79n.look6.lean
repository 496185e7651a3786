/-! plain law: look, which yards -/
theorem and_nI (a b : Nat) : nI a &&& nI b = nI (a &&& b) := by
  unfold nI
  rw [← Int32.toBitVec_inj]
  simp [Int32.toBitVec_and, BitVec.ofNat_and]
theorem bt_tb (S j : Nat) : bt S j = 1 ↔ S.testBit j = true := by
  unfold bt
  rw [Nat.testBit_eq_decide_div_mod_eq, decide_eq_true_eq]
/-- the yards that the row asks for -/
def rwb (f : Nat → Int32) : Nat → Nat
  | 0 => 0
  | k + 1 => rwb f k ||| (if f k ≤ 0 then 0 else 2 ^ k)
theorem rwb_lt (f : Nat → Int32) : ∀ k, k ≤ 8 → rwb f k < 256
  | 0, _ => by show 0 < 256; decide
  | k + 1, hk => by
    rw [rwb]
    refine Nat.or_lt_two_pow (n := 8) (rwb_lt f k (by omega)) ?_
    by_cases g : f k ≤ 0
    · rw [if_pos g]; decide
    · rw [if_neg g]; exact Nat.pow_lt_pow_right (by decide) (by omega)
theorem rwb_bt (f : Nat → Int32) : ∀ k j, (rwb f k).testBit j = true ↔ (j < k ∧ ¬ f j ≤ 0)
  | 0, j => by
    show (0 : Nat).testBit j = true ↔ _
    rw [Nat.zero_testBit]
    constructor
    · intro h; cases h
    · intro h; omega
  | k + 1, j => by
    rw [rwb, Nat.testBit_or, Bool.or_eq_true, rwb_bt f k j]
    by_cases g : f k ≤ 0
    · rw [if_pos g, Nat.zero_testBit]
      constructor
      · rintro (h | h)
        · exact ⟨by omega, h.2⟩
        · cases h
      · intro h
        by_cases q : j = k
        · subst q; exact absurd g h.2
        · exact Or.inl ⟨by omega, h.2⟩
    · rw [if_neg g, Nat.testBit_two_pow, decide_eq_true_eq]
      constructor
      · rintro (h | h)
        · exact ⟨by omega, h.2⟩
        · subst h; exact ⟨by omega, g⟩
      · intro h
        by_cases q : j = k
        · exact Or.inr q.symm
        · exact Or.inl ⟨by omega, h.2⟩
theorem and_bt {f : Nat → Int32} {V j : Nat} (hj : j < 8) : bt (rwb f 8 &&& V) j = 1 ↔ (¬ f j ≤ 0 ∧ bt V j = 1) := by
  rw [bt_tb, Nat.testBit_and, Bool.and_eq_true, rwb_bt, bt_tb]
  constructor
  · intro h; exact ⟨h.1.2, h.2⟩
  · intro h; exact ⟨⟨hj, h.1⟩, h.2⟩
theorem pop_mem : ∀ A, A < 256 → pop A 14 = (memA A).length := by decide +kernel
def mem8 (A k : Nat) : List Nat := (List.range k).filter fun y => decide (bt A y = 1)
theorem mem8_s (A k : Nat) : mem8 A (k + 1) = mem8 A k ++ (if bt A k = 1 then [k] else []) := by
  unfold mem8
  rw [List.range_succ, List.filter_append]
  congr 1
  by_cases g : bt A k = 1
  · simp [g]
  · simp [g]
