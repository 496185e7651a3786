/-! plain law: bits -/
def pop (v : Nat) : Nat → Nat
  | 0 => 0
  | k + 1 => pop v k + v / 2 ^ k % 2
/-- what Integer.bitCount computes -/
def bcf (a0 : Int32) : Int32 :=
  let x1 := a0 - (((a0.toUInt32 >>> ((1 : Int32).toUInt32 &&& Int32.toUInt32 31)).toInt32) &&& 1431655765)
  let x3 := (x1 &&& 858993459) + (((x1.toUInt32 >>> ((2 : Int32).toUInt32 &&& Int32.toUInt32 31)).toInt32) &&& 858993459)
  let x5 := (x3 + ((x3.toUInt32 >>> ((4 : Int32).toUInt32 &&& Int32.toUInt32 31)).toInt32)) &&& 252645135
  let x7 := x5 + ((x5.toUInt32 >>> ((8 : Int32).toUInt32 &&& Int32.toUInt32 31)).toInt32)
  let x9 := x7 + ((x7.toUInt32 >>> ((16 : Int32).toUInt32 &&& Int32.toUInt32 31)).toInt32)
  x9 &&& 63
theorem bc_is (a : Int32) : j_bitCount a = some (bcf a) := rfl
theorem bcf_all : ∀ a, a < 128 → ∀ b, b < 128 → bcf (nI (128 * a + b)) = nI (pop (128 * a + b) 14) := by decide +kernel
theorem bcf_is {v : Nat} (h : v < 16384) : j_bitCount (nI v) = some (nI (pop v 14)) := by
  have h1 := bcf_all (v / 128) (by omega) (v % 128) (by omega)
  rw [show 128 * (v / 128) + v % 128 = v by omega] at h1
  rw [bc_is, h1]
theorem shr_amt : ∀ k, k < 14 → ((nI k &&& 31).toBitVec.smod 32).toNat = k := by decide +kernel
theorem and_1 (m : Nat) : nI m &&& 1 = nI (m % 2) := by
  unfold nI
  rw [← Int32.toBitVec_inj, ← Nat.and_one_is_mod]
  show BitVec.ofNat 32 m &&& 1#32 = BitVec.ofNat 32 (m &&& 1)
  rw [BitVec.ofNat_and]
theorem shr_is {v k : Nat} (h : v < 2 ^ 31) (hk : k < 14) : nI v >>> (nI k &&& 31) = nI (v / 2 ^ k) := by
  apply Int32.toInt_inj.mp
  rw [Jvm.Kit.i32_shr (nI v) (nI k &&& 31) (shr_amt k hk), nI_toInt h, nI_toInt (Nat.lt_of_le_of_lt (Nat.div_le_self _ _) h)]
  rfl
theorem bit_is {v k : Nat} (h : v < 16384) (hk : k < 14) : (nI v >>> (nI k &&& 31)) &&& 1 = nI (v / 2 ^ k % 2) := by
  rw [shr_is (by omega) hk, and_1]
theorem pop_le (v : Nat) : ∀ k, pop v k ≤ k
  | 0 => Nat.le_refl _
  | k + 1 => by
    have := pop_le v k
    rw [pop]
    omega
theorem bits_is {v : Nat} (h : v < 16384) : m_bits (nI v) = some (nI (pop v 14)) := by
  have key : ∃ e, lq2 (m_bits_L1 (nI v)) 0 0 = some e ∧ e = nI (pop v 14) := by
    unfold lq2
    refine lp_forI 14 (fun k (q : Int32 × Int32) => k ≤ 14 ∧ q.2 = nI k ∧ q.1 = nI (pop v k)) _ ?_ (i := 0) ⟨by omega, nI_0.symm, nI_0.symm⟩
    rintro k ⟨x, y⟩ ⟨hk, hy, hx⟩
    dsimp only at hy hx
    subst hy hx
    by_cases h14 : k = 14
    · subst h14
      exact Or.inr ⟨_, by show m_bits_L1 (nI v) _ (nI 14) = _; unfold m_bits_L1; rw [if_pos (by decide)], rfl⟩
    · have hk2 : k < 14 := by omega
      refine Or.inl ⟨hk2, (nI (pop v (k + 1)), nI k + 1), ?_, by omega, nI_1 k, rfl⟩
      show m_bits_L1 (nI v) (nI (pop v k)) (nI k) = _
      unfold m_bits_L1
      rw [if_neg (show ¬ (14 : Int32) ≤ nI k from nI_ge (b := 14) hk2 (by decide)), bit_is h hk2, nI_add]
      rfl
  obtain ⟨e, k1, rfl⟩ := key
  unfold m_bits
  rw [k1, B1_some]
theorem shl_all : ∀ k, k < 14 → (1 : Int32) <<< (nI k &&& 31) = nI (2 ^ k) := by decide +kernel
theorem or_nI (a b : Nat) : nI a ||| nI b = nI (a ||| b) := by
  unfold nI
  rw [← Int32.toBitVec_inj]
  simp [Int32.toBitVec_or, BitVec.ofNat_or]
theorem or_lt {a b : Nat} (ha : a < 16384) (hb : b < 16384) : a ||| b < 16384 := Nat.or_lt_two_pow (n := 14) ha hb
