/-! plain law: trailers and tractors act -/
/-- class: a new trailer laid at n -/
def fldT (kd n : Nat) (y w : Int32) : Nat → Int32 := fun f => if f = 0 then nI n else if f = 1 then w else if f = 2 then y else if f = 3 then -9 else if f = 6 then 100 else if f = 11 then (if kd = 3 then -18 else 5) else 0
def trNew (σ : St) (n kd : Nat) (y w : Int32) : St := sL (sL (sL (sAr (sAr (sAr σ (120 + n) (fldT kd n y w)) (140 + n) (fun _ => 0)) (160 + n) (fun _ => 0)) (120 + n) (some kd)) (140 + n) (some 6)) (160 + n) (some 6)
noncomputable def c_trailer (σ : St) (a1 a2 a3 : Int32) : Option (Int32 × St) :=
  B1 (c_in a1 0 3) fun v2 =>
  if v2 = 0 then (some ((-1), σ)) else
  B1 (c_isYard a2) fun v4 =>
  if v4 = 0 then (some ((-1), σ)) else
  B1 (c_in a3 0 100000) fun v6 =>
  if v6 = 0 then (some ((-1), σ)) else
  if (cI σ 19) = 12 then (some ((-2), σ)) else
  if (cI σ 22) = 60 then (some ((-2), σ)) else
  B1 (ixA 12 (cI σ 19)) fun n =>
  if (cL σ (120 + n)).isSome = true ∨ (cL σ (140 + n)).isSome = true ∨ (cL σ (160 + n)).isSome = true then none else
  B1 (c_enter (sI (trNew σ n a1.toNatClampNeg a2 a3) 19 (cI σ 19 + 1)) (cI σ 19) 0 a2 a2) fun σ9 =>
  some (cI σ 19, σ9)
/-- an entry is written -/
def entC (σ : St) (N : Nat) (a b c d : Int32) : St := sI (sA (sA (sA (sA (sA σ 23 N a) 24 N b) 25 N (cI σ 11)) 26 N c) 27 N d) 22 (nI (N + 1))
def entM (τ : St) (N : Nat) (a b c d : Int32) : St := sI (sA (sA (sA (sA (sA τ 35 N a) 36 N b) 37 N (cI τ 5)) 38 N c) 39 N d) 34 (nI (N + 1))
section Ops3
variable {σ σ' τ τ' : St}
theorem cent_is {N : Nat} (hN : N < 60) (h : cI σ 22 = nI N) (a b c d : Int32) : c_enter σ a b c d = some (entC σ N a b c d) := by
  have h1 : ∀ (σ : St) (k : Nat) (i : Nat) (v : Int32), cI (sA σ k i v) 22 = cI σ 22 := fun _ _ _ _ => rfl
  unfold c_enter entC
  rw [h, wrA_nI hN (by decide), B1_some, h1, h, wrA_nI hN (by decide), B1_some, h1, h1, h, wrA_nI hN (by decide), B1_some, h1, h1, h1, h, wrA_nI hN (by decide), B1_some, h1, h1, h1, h1, h, wrA_nI hN (by decide), B1_some, h1, h1, h1, h1, h1, h, nI_1]
  rfl
theorem ment_is {N : Nat} (hN : N < 60) (h : cI τ 34 = nI N) (a b c d : Int32) : m_enter τ a b c d = some (entM τ N a b c d) := by
  have h1 : ∀ (σ : St) (k : Nat) (i : Nat) (v : Int32), cI (sA σ k i v) 34 = cI σ 34 := fun _ _ _ _ => rfl
  unfold m_enter entM
  rw [h, wrA_nI hN (by decide), B1_some, h1, h, wrA_nI hN (by decide), B1_some, h1, h1, h, wrA_nI hN (by decide), B1_some, h1, h1, h1, h, wrA_nI hN (by decide), B1_some, h1, h1, h1, h1, h, wrA_nI hN (by decide), B1_some, h1, h1, h1, h1, h1, h, nI_1]
  rfl
theorem Req.ent (h : Req σ τ) {N : Nat} {a b c d a' b' c' d' : Int32} (ha : a = a') (hb : b = b') (hc : c = c') (hd : d = d') : Req (entC σ N a b c d) (entM τ N a' b' c' d') :=
  Req.wI (Req.wA (Req.wA (Req.wA (Req.wA (Req.wA h (by decide) ha) (by decide) hb) (by decide) (h.I 11 5 (by decide))) (by decide) hc) (by decide) hd) (by decide) rfl
theorem Up.ent (h : Up σ σ') {N : Nat} {a b c d : Int32} : Up σ (entC σ' N a b c d) := Up.wI (((((h.wA (by decide)).wA (by decide)).wA (by decide)).wA (by decide)).wA (by decide))
theorem Dn.ent (h : Dn τ τ') {N : Nat} {a b c d : Int32} : Dn τ (entM τ' N a b c d) := Dn.wI (((((h.wA (by decide)).wA (by decide)).wA (by decide)).wA (by decide)).wA (by decide))
theorem e60 {N : Nat} (h : N ≤ 60) : (nI N = 60) ↔ N = 60 := nI_eq (b := 60) (by omega) (by decide)
theorem cold_is {t kd : Nat} (ht : t < 12) (hkd : kd < 4) (h17 : cA τ 17 t = nI kd) : m_isCold τ (nI t) = some (b01 (decide (kd = 1 ∨ kd = 3))) := by
  unfold m_isCold
  rw [rdA_nI ht (by decide), B1_some, B1_some, h17]
  have : kd = 0 ∨ kd = 1 ∨ kd = 2 ∨ kd = 3 := by omega
  rcases this with rfl | rfl | rfl | rfl <;> decide
theorem s_limit (h : R σ τ) (a b : Int32) : Sim (c_limit σ a b) (m_limit τ a b) Rq := by
  unfold c_limit m_limit
  rcases h.tcase a with ⟨n, t, hn, e16, ht, rfl, e1, e2, hT⟩ | ⟨e1, e2⟩
  · rw [e1, e2, B1_some, B1_some, if_neg k10, if_neg k10, m_in_c]
    rcases in_cases b (-50) 50 with ⟨-, -, e3⟩ | ⟨-, e3⟩
    · obtain ⟨kd, hkd, hL, h17, -, -, -, hF, -⟩ := hT
      have ht12 : t < 12 := by omega
      rw [e3, B1_some, B1_some, if_neg k10, if_neg k10, ixD_is ht12 (by decide) hL, B1_some, hL, B1_some, cold_is ht12 hkd h17, B1_some]
      by_cases hc : kd = 1 ∨ kd = 3
      · have hok : okT kd 11 = true := by rcases hc with rfl | rfl <;> rfl
        have f11 := hF (11, 27) (by decide) hok
        dsimp only at f11
        rw [if_pos hc, decide_eq_true hc, b01_t, if_neg k10, rdT_is hL hok, B1_some, wrT_is hL hok, B1_some, rdA_nI ht12 (by decide), B1_some, wrA_nI ht12 (by decide), B1_some]
        refine ⟨_, _, rfl, rfl, rfl, h.mk2 (Mid.wI (Mid.rfl.wA (by omega))) (MidM.wA (MidM.rfl.wI (by decide)) (by decide)) (Req.yA (Req.wI (Req.xA h.eq (eqA_hi (by omega))) (by decide) f11) (by decide)) (fun w n' N q c1 c2 c3 c4 c5 => ?_)⟩
        have hn' : n' = n := (nI_eq (by have := c1.2.1; omega) (by omega)).mp (c1.2.2.2.2.2.1.symm.trans e16)
        subst hn'
        exact ⟨w, n', N, c1, c2.wT hn ht (by decide), c3, c4, c5⟩
      · rw [if_neg hc, decide_eq_false hc, b01_f, if_pos k00]
        exact found_meets1 h (f := 3) (by decide) rfl
    · rw [e3, B1_some, B1_some, if_pos k00, if_pos k00]
      exact h.same _
  · rw [e1, e2, B1_some, B1_some, if_pos k00, if_pos k00]
    exact h.same _
end Ops3
