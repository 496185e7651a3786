/-! plain law: pool, both searches together; the chain; new prices -/
section Pool2
variable {c : Nat → Nat → Option Nat} {x : Nat → Nat → Nat} {ov : Nat → Nat} {S T : Nat → Prop} {π : Nat → Nat} {s s' : Dp}
/-- the same on all nodes that count -/
def QrP (S : Nat → Prop) (s s' : Dp) : Prop := ∀ v, v < 16 → (v < 8 ∨ ¬ S (v - 8)) → s.1 v = s'.1 v ∧ s.2 v = s'.2 v
theorem rlx_ne (s : Dp × Bool) {a b v : Nat} (h : v ≠ b) : ∀ o, (rlxP s a b o).1.1 v = s.1.1 v ∧ (rlxP s a b o).1.2 v = s.1.2 v
  | none => ⟨rfl, rfl⟩
  | some t => by
    rw [rlxP]
    by_cases q : ltO t (s.1.1 b) = true
    · rw [if_pos q]; exact ⟨set1_ne s.1 a t h, set2_ne s.1 a t h⟩
    · rw [if_neg q]; exact ⟨rfl, rfl⟩
theorem rlx_rel {s s' : Dp × Bool} (h : QrP S s.1 s'.1) {a b : Nat} (hb : b < 16) {o o' : Option Nat} (ho : (b < 8 ∨ ¬ S (b - 8)) → o = o') : QrP S (rlxP s a b o).1 (rlxP s' a b o').1 := by
  intro v hv hr
  by_cases q : v = b
  · subst q
    obtain ⟨h1, h2⟩ := h v hv hr
    have := ho hr
    subst this
    cases o with
    | none => exact ⟨h1, h2⟩
    | some t =>
      rw [rlxP, rlxP, ← h1]
      by_cases q : ltO t (s.1.1 v) = true
      · rw [if_pos q, if_pos q]
        show (set1P s.1 v a t).1 v = (set1P s'.1 v a t).1 v ∧ (set1P s.1 v a t).2 v = (set1P s'.1 v a t).2 v
        rw [set1_at, set1_at, set2_at, set2_at]
        exact ⟨rfl, rfl⟩
      · rw [if_neg q, if_neg q]; exact ⟨h1, h2⟩
  · obtain ⟨a1, a2⟩ := rlx_ne s (a := a) q o
    obtain ⟨b1, b2⟩ := rlx_ne s' (a := a) q o'
    rw [a1, a2, b1, b2]
    exact h v hv hr
variable {cC cM : Nat → Nat → Option Nat} {πC πM : Nat → Nat}
/-- the reference also has the ways from a yard to itself -/
def DgP (cC cM : Nat → Nat → Option Nat) : Prop := (∀ i, cC i i = none) ∧ ∀ i j, i < 8 → j < 8 → i ≠ j → cM i j = cC i j
theorem st1_rel (hd : DgP cC cM) (gC : GrP cC x ov S T πC) (gM : GrP cM x ov S T πM) {s s' : Dp × Bool} (h : QrP S s.1 s'.1) (hC : IvP cC x ov S πC s.1) (hM : IvP cM x ov S πM s'.1) {k : Nat} (hk : k < 64) : QrP S (st1P cC x k s).1 (st1P cM x k s').1 := by
  have hi : k / 8 < 8 := by omega
  have hj : k % 8 < 8 := by omega
  have h1 : QrP S (rlxP s (k / 8) (8 + k % 8) (cfP cC (k / 8) (k % 8) s.1.1)).1 (rlxP s' (k / 8) (8 + k % 8) (cfP cM (k / 8) (k % 8) s'.1.1)).1 := by
    refine rlx_rel h (by omega) fun hb => ?_
    have hS : ¬ S (k % 8) := by
      rcases hb with g | g
      · omega
      · rw [show 8 + k % 8 - 8 = k % 8 by omega] at g; exact g
    unfold cfP
    by_cases q : k / 8 = k % 8
    · rw [q, hd.1]
      cases hs : s'.1.1 (k % 8) with
      | none => cases cM (k % 8) (k % 8) <;> rfl
      | some u => exact absurd (hM.re (k % 8) u hj hs) hS
    · rw [hd.2 _ _ hi hj q, (h (k / 8) (by omega) (Or.inl hi)).1]
  refine rlx_rel h1 (by omega) fun _ => ?_
  unfold crP
  by_cases hx : x (k / 8) (k % 8) = 0
  · rw [if_pos hx, if_pos hx]
  · rw [if_neg hx, if_neg hx]
    obtain ⟨-, hT, w, e1, -⟩ := gC.xc _ _ hi hj (by omega)
    have hne : k / 8 ≠ k % 8 := fun q => by
      rw [q, hd.1] at e1
      cases e1
    rw [hd.2 _ _ hi hj hne, (h1 (8 + k % 8) (by omega) (Or.inr (by
      rw [show 8 + k % 8 - 8 = k % 8 by omega]
      exact fun g => gC.ST _ g hT))).1]
theorem ps_rel (hd : DgP cC cM) (gC : GrP cC x ov S T πC) (gM : GrP cM x ov S T πM) (h : QrP S s s') (hC : IvP cC x ov S πC s) (hM : IvP cM x ov S πM s') : ∀ k, k ≤ 64 → QrP S (psP cC x k s).1 (psP cM x k s').1
  | 0, _ => h
  | k + 1, hk => st1_rel hd gC gM (ps_rel hd gC gM h hC hM k (by omega)) (ps_kp gC hC k (by omega)).1 (ps_kp gM hM k (by omega)).1 (by omega)
def itpP (c : Nat → Nat → Option Nat) (x : Nat → Nat → Nat) : Nat → Dp → Dp
  | 0, s => s
  | n + 1, s => (psP c x 64 (itpP c x n s)).1
theorem itp_iv (g : GrP c x ov S T π) (h : IvP c x ov S π s) : ∀ n, IvP c x ov S π (itpP c x n s)
  | 0 => h
  | n + 1 => (ps_kp g (itp_iv g h n) 64 (by omega)).1
theorem itp_rel (hd : DgP cC cM) (gC : GrP cC x ov S T πC) (gM : GrP cM x ov S T πM) (h : QrP S s s') (hC : IvP cC x ov S πC s) (hM : IvP cM x ov S πM s') : ∀ n, QrP S (itpP cC x n s) (itpP cM x n s')
  | 0 => h
  | n + 1 => ps_rel hd gC gM (itp_rel hd gC gM h hC hM n) (itp_iv gC hC n) (itp_iv gM hM n) 64 (by omega)
theorem itp_st {n : Nat} (h : (psP c x 64 (itpP c x n s)).2 = false) : ∀ m, itpP c x (n + m) s = itpP c x n s
  | 0 => rfl
  | m + 1 => by
    show (psP c x 64 (itpP c x (n + m) s)).1 = _
    rw [itp_st h m, (ps_fix 64 h).1]
theorem fin_rel (hd : DgP cC cM) (gC : GrP cC x ov S T πC) (gM : GrP cM x ov S T πM) (h : QrP S s s') (hC : IvP cC x ov S πC s) (hM : IvP cM x ov S πM s') {n n' : Nat} (f : (psP cC x 64 (itpP cC x n s)).2 = false) (f' : (psP cM x 64 (itpP cM x n' s')).2 = false) : QrP S (itpP cC x n s) (itpP cM x n' s') := by
  have h1 := itp_st f n'
  have h2 := itp_st f' n
  rw [Nat.add_comm] at h2
  rw [← h1, ← h2]
  exact itp_rel hd gC gM h hC hM (n + n')
/-- the first of the nearest that lack -/
def tgP (d : Nat → Option Nat) (lk : Nat → Nat) : Nat → Option Nat
  | 0 => none
  | j + 1 => if lk j = 0 then tgP d lk j else if d (8 + j) = none then tgP d lk j else match tgP d lk j with
    | none => some j
    | some b => if (d (8 + b)).getD 0 ≤ (d (8 + j)).getD 0 then some b else some j
theorem tg_some {d : Nat → Option Nat} {lk : Nat → Nat} : ∀ {k b : Nat}, tgP d lk k = some b → b < k ∧ 0 < lk b ∧ ∃ u, d (8 + b) = some u
  | 0, b, h => by cases h
  | k + 1, b, h => by
    rw [tgP] at h
    by_cases q : lk k = 0
    · rw [if_pos q] at h
      obtain ⟨h1, h2⟩ := tg_some h
      exact ⟨by omega, h2⟩
    · rw [if_neg q] at h
      by_cases q2 : d (8 + k) = none
      · rw [if_pos q2] at h
        obtain ⟨h1, h2⟩ := tg_some h
        exact ⟨by omega, h2⟩
      · rw [if_neg q2] at h
        have hk : ∃ u, d (8 + k) = some u := by
          cases hd : d (8 + k) with
          | none => exact absurd hd q2
          | some u => exact ⟨u, rfl⟩
        cases ht : tgP d lk k with
        | none =>
          rw [ht] at h
          cases h
          exact ⟨by omega, by omega, hk⟩
        | some b' =>
          rw [ht] at h
          dsimp only at h
          by_cases q3 : (d (8 + b')).getD 0 ≤ (d (8 + k)).getD 0
          · rw [if_pos q3] at h
            cases h
            obtain ⟨h1, h2⟩ := tg_some ht
            exact ⟨by omega, h2⟩
          · rw [if_neg q3] at h
            cases h
            exact ⟨by omega, by omega, hk⟩
theorem tg_eq {d d' : Nat → Option Nat} {lk : Nat → Nat} (h : ∀ j, j < 8 → 0 < lk j → d (8 + j) = d' (8 + j)) : ∀ k, k ≤ 8 → tgP d lk k = tgP d' lk k
  | 0, _ => rfl
  | k + 1, hk => by
    rw [tgP, tgP, tg_eq h k (by omega)]
    by_cases q : lk k = 0
    · rw [if_pos q, if_pos q]
    · rw [if_neg q, if_neg q, h k (by omega) (by omega)]
      cases ht : tgP d' lk k with
      | none => rfl
      | some b =>
        obtain ⟨h1, h2, -⟩ := tg_some ht
        dsimp only
        rw [h b (by omega) h2]
def up2P (x : Nat → Nat → Nat) (i j v : Nat) : Nat → Nat → Nat := fun a b => if a = i ∧ b = j then v else x a b
theorem up2_at (x : Nat → Nat → Nat) (i j v : Nat) : up2P x i j v i j = v := if_pos ⟨rfl, rfl⟩
theorem up2_ne (x : Nat → Nat → Nat) {i j a b : Nat} (v : Nat) (h : ¬ (a = i ∧ b = j)) : up2P x i j v a b = x a b := if_neg h
def chxP (p : Nat → Option Nat) : Nat → Nat → (Nat → Nat → Nat) → (Nat → Nat → Nat) × Nat
  | 0, v, x => (x, v)
  | n + 1, v, x => match p v with
    | none => (x, v)
    | some u => if v < 8 then chxP p n u (up2P x v (u - 8) (x v (u - 8) - 1)) else chxP p n u (up2P x u (v - 8) (x u (v - 8) + 1))
/-- the chain can be gone -/
def CWP (p : Nat → Option Nat) : Nat → Nat → (Nat → Nat → Nat) → Prop
  | 0, v, _ => p v = none ∧ v < 8
  | n + 1, v, x => ∃ u, p v = some u ∧ ((v < 8 ∧ 8 ≤ u ∧ u < 16 ∧ 0 < x v (u - 8) ∧ CWP p n u (up2P x v (u - 8) (x v (u - 8) - 1))) ∨ (8 ≤ v ∧ v < 16 ∧ u < 8 ∧ CWP p n u (up2P x u (v - 8) (x u (v - 8) + 1))))
def TgP (T : Nat → Prop) (π : Nat → Nat) (s : Dp) (E i j : Nat) : Prop := s.2 (8 + j) = some i ∧ T j ∧ ∃ t, s.1 (8 + j) = some t ∧ t - π (8 + j) ≤ E
theorem ch_ok (g : GrP c x ov S T π) (h : IvP c x ov S π s) {E : Nat} : ∀ n v xc, Rn s.2 n v → (∃ t, s.1 v = some t ∧ t - π v ≤ E) → (8 ≤ v → T (v - 8)) → (∀ i j, xc i j ≤ x i j + 1) → (∀ m j, m ≤ n → Rn s.2 m (8 + j) → ∀ i, xc i j ≤ x i j) → (∀ m y, m ≤ n → Rn s.2 m y → y < 8 → ∀ j, x y j ≤ xc y j) → (∀ i j, 0 < xc i j → 0 < x i j ∨ TgP T π s E i j) →
    CWP s.2 n v xc ∧ (chxP s.2 n v xc).2 < 8 ∧ 0 < ov (chxP s.2 n v xc).2 ∧ (∀ i j, (chxP s.2 n v xc).1 i j ≤ x i j + 1) ∧ ∀ i j, 0 < (chxP s.2 n v xc).1 i j → 0 < x i j ∨ TgP T π s E i j := by
  intro n
  induction n with
  | zero =>
    rintro v xc hr ⟨t, ht, he⟩ hT hA hB hC hD
    obtain ⟨r1, r2, -⟩ := h.rt v t ht hr
    exact ⟨⟨hr, r1⟩, r1, r2, hA, hD⟩
  | succ n ih =>
    rintro v xc hr0 ⟨t, ht, he⟩ hT hA hB hC hD
    have hr := hr0
    obtain ⟨u, r1, r2⟩ := hr
    obtain ⟨uu, t', p1, p2, p3⟩ := h.pa v u r1
    rw [ht] at p2
    cases p2
    have hpo := p3.pot g
    have hlu := (h.lo u uu p1).2
    have hlv := (h.lo v t ht).2
    have heu : uu - π u ≤ E := by omega
    rw [chxP, r1]
    dsimp only
    rcases p3 with ⟨j, w, h1, h2, rfl, h4, h5⟩ | ⟨j, w, h1, h2, rfl, h4, h5, h6⟩
    · have hTj : T j := by
        have := hT (by omega)
        rw [show 8 + j - 8 = j by omega] at this
        exact this
      rw [if_neg (by omega), show 8 + j - 8 = j by omega]
      have key := ih u (up2P xc u j (xc u j + 1)) r2 ⟨uu, p1, heu⟩ (fun q => by omega) (fun a b => ?_) (fun m b hm hb a => ?_) (fun m y hm hy hy8 b => ?_) (fun a b hab => ?_)
      · exact ⟨⟨u, r1, Or.inr ⟨by omega, by omega, h2, by rw [show 8 + j - 8 = j by omega]; exact key.1⟩⟩, key.2⟩
      · by_cases q : a = u ∧ b = j
        · obtain ⟨rfl, rfl⟩ := q
          rw [up2_at]
          have := hB (n + 1) b (Nat.le_refl _) hr0 a
          omega
        · rw [up2_ne _ _ q]; exact hA a b
      · by_cases q : a = u ∧ b = j
        · obtain ⟨rfl, rfl⟩ := q
          have := hb.uniq hr0
          omega
        · rw [up2_ne _ _ q]; exact hB m b (by omega) hb a
      · by_cases q : y = u ∧ b = j
        · obtain ⟨rfl, rfl⟩ := q
          rw [up2_at]
          have := hC m y (by omega) hy hy8 b
          omega
        · rw [up2_ne _ _ q]; exact hC m y (by omega) hy hy8 b
      · by_cases q : a = u ∧ b = j
        · obtain ⟨rfl, rfl⟩ := q
          exact Or.inr ⟨r1, hTj, t, ht, he⟩
        · rw [up2_ne _ _ q] at hab; exact hD a b hab
    · obtain ⟨-, hTj, -⟩ := g.xc v j h2 h1 h4
      have hpos : 0 < xc v j := by
        have := hC (n + 1) v (Nat.le_refl _) hr0 h2 j
        omega
      rw [if_pos h2, show 8 + j - 8 = j by omega]
      have key := ih (8 + j) (up2P xc v j (xc v j - 1)) r2 ⟨uu, p1, heu⟩ (fun _ => by rw [show 8 + j - 8 = j by omega]; exact hTj) (fun a b => ?_) (fun m b hm hb a => ?_) (fun m y hm hy hy8 b => ?_) (fun a b hab => ?_)
      · exact ⟨⟨8 + j, r1, Or.inl ⟨h2, by omega, by omega, by rw [show 8 + j - 8 = j by omega]; exact hpos, by rw [show 8 + j - 8 = j by omega]; exact key.1⟩⟩, key.2⟩
      · by_cases q : a = v ∧ b = j
        · obtain ⟨rfl, rfl⟩ := q
          rw [up2_at]
          have := hA a b
          omega
        · rw [up2_ne _ _ q]; exact hA a b
      · by_cases q : a = v ∧ b = j
        · obtain ⟨rfl, rfl⟩ := q
          rw [up2_at]
          have := hB m b (by omega) hb a
          omega
        · rw [up2_ne _ _ q]; exact hB m b (by omega) hb a
      · have hne : ¬ (y = v ∧ b = j) := fun q => by
          obtain ⟨rfl, rfl⟩ := q
          have := hy.uniq hr0
          omega
        rw [up2_ne _ _ hne]; exact hC m y (by omega) hy hy8 b
      · by_cases q : a = v ∧ b = j
        · obtain ⟨rfl, rfl⟩ := q
          exact hD a b hpos
        · rw [up2_ne _ _ q] at hab; exact hD a b hab
/-- both sides go the same chain -/
theorem ch_eq (g : GrP c x ov S T π) (h : IvP c x ov S π s) (hq : QrP S s s') : ∀ n v xc, v < 16 → (8 ≤ v → T (v - 8)) → Rn s.2 n v → Rn s'.2 n v ∧ chxP s'.2 n v xc = chxP s.2 n v xc := by
  intro n
  induction n with
  | zero =>
    intro v xc hv hT hr
    refine ⟨?_, rfl⟩
    have := (hq v hv (by
      by_cases q : v < 8
      · exact Or.inl q
      · exact Or.inr fun k => g.ST _ k (hT (by omega)))).2
    show s'.2 v = none
    rw [← this]; exact hr
  | succ n ih =>
    intro v xc hv hT hr
    obtain ⟨u, r1, r2⟩ := hr
    have he := (hq v hv (by
      by_cases q : v < 8
      · exact Or.inl q
      · exact Or.inr fun k => g.ST _ k (hT (by omega)))).2
    rw [r1] at he
    obtain ⟨uu, t, p1, p2, p3⟩ := h.pa v u r1
    have hu : u < 16 := p3.lt.1
    have hTu : 8 ≤ u → T (u - 8) := fun q => by
      rcases p3 with ⟨j, w, h1, h2, rfl, h4, h5⟩ | ⟨j, w, h1, h2, rfl, h4, h5, h6⟩
      · omega
      · obtain ⟨-, hTj, -⟩ := g.xc v j h2 h1 h4
        rw [show 8 + j - 8 = j by omega]
        exact hTj
    refine ⟨⟨u, he.symm, (ih u xc hu hTu r2).1⟩, ?_⟩
    rw [chxP, chxP, r1, ← he]
    dsimp only
    by_cases q : v < 8
    · rw [if_pos q, if_pos q, (ih u _ hu hTu r2).2]
    · rw [if_neg q, if_neg q, (ih u _ hu hTu r2).2]
def adP (o : Option Nat) (p E : Nat) : Nat :=
  match o with
  | none => p + E
  | some u => p + min (u - p) E
theorem newpot (g : GrP c x ov S T π) (h : IvP c x ov S π s) (f : FixP c x s) (E : Nat) {x' : Nat → Nat → Nat} {ov' : Nat → Nat} (hx : ∀ i j, 0 < x' i j → 0 < x i j ∨ TgP T π s E i j) (ho : ∀ i, ov' i ≤ ov i) : GrP c x' ov' S T (fun v => adP (s.1 v) (π v) E) := by
  have hfw : ∀ i j w, i < 8 → j < 8 → c i j = some w → adP (s.1 (8 + j)) (π (8 + j)) E ≤ adP (s.1 i) (π i) E + w := fun i j w hi hj hc => by
    have h1 := g.fw i j w hi hj hc
    cases hs : s.1 i with
    | none =>
      cases ht : s.1 (8 + j) with
      | none => show π (8 + j) + E ≤ π i + E + w; omega
      | some t => show π (8 + j) + min (t - π (8 + j)) E ≤ π i + E + w; omega
    | some u =>
      obtain ⟨t, e1, e2⟩ := f.1 i j w u hi hj hc hs
      rw [e1]
      have := (h.lo i u hs).2
      show π (8 + j) + min (t - π (8 + j)) E ≤ π i + min (u - π i) E + w
      omega
  refine ⟨g.c28, fun i j hi hj hp => ?_, hfw, fun i hi hp => ?_, g.ST⟩
  · rcases hx i j hp with k | ⟨k1, k2, t, k3, k4⟩
    · obtain ⟨a1, a2, w, a3, a4⟩ := g.xc i j hi hj k
      refine ⟨a1, a2, w, a3, ?_⟩
      have h2 := hfw i j w hi hj a3
      have h3 : adP (s.1 i) (π i) E + w ≤ adP (s.1 (8 + j)) (π (8 + j)) E := by
        cases ht : s.1 (8 + j) with
        | none =>
          cases hs : s.1 i with
          | none => show π i + E + w ≤ π (8 + j) + E; omega
          | some u => show π i + min (u - π i) E + w ≤ π (8 + j) + E; omega
        | some t =>
          obtain ⟨u, e1, e2⟩ := f.2 i j w t hi hj k a3 ht
          rw [e1]
          have := (h.lo i u e1).2
          have := (h.lo (8 + j) t ht).2
          show π i + min (u - π i) E + w ≤ π (8 + j) + min (t - π (8 + j)) E
          omega
      exact Nat.le_antisymm h2 h3
    · obtain ⟨u, t', p1, p2, p3⟩ := h.pa (8 + j) i k1
      rw [k3] at p2
      cases p2
      rcases p3 with ⟨j', w, h1, h2, h3, h4, h5⟩ | ⟨j', w, h1, h2, h3, h4, h5, h6⟩
      · have : j' = j := by omega
        subst this
        refine ⟨h.re i u hi p1, k2, w, h4, ?_⟩
        have q2 := hfw i j' w hi hj h4
        have q3 : adP (s.1 i) (π i) E + w ≤ adP (s.1 (8 + j')) (π (8 + j')) E := by
          rw [p1, k3]
          have := (h.lo i u p1).2
          have := (h.lo (8 + j') t k3).2
          show π i + min (u - π i) E + w ≤ π (8 + j') + min (t - π (8 + j')) E
          omega
        exact Nat.le_antisymm q2 q3
      · omega
  · have hov : 0 < ov i := Nat.lt_of_lt_of_le hp (ho i)
    obtain ⟨a1, a2⟩ := g.ov0 i hi hov
    refine ⟨a1, ?_⟩
    show adP (s.1 i) (π i) E = 0
    rw [(h.so i hi hov).1]
    show π i + min (0 - π i) E = 0
    omega
def d0P (ov : Nat → Nat) : Dp := (fun v => if v < 8 ∧ 0 < ov v then some 0 else none, fun _ => none)
theorem d0_iv (g : GrP c x ov S T π) : IvP c x ov S π (d0P ov) := by
  have hs : ∀ v u, (d0P ov).1 v = some u → v < 8 ∧ 0 < ov v ∧ u = 0 := fun v u hv => by
    have hv : (if v < 8 ∧ 0 < ov v then some 0 else none) = some u := hv
    by_cases q : v < 8 ∧ 0 < ov v
    · rw [if_pos q] at hv; cases hv; exact ⟨q.1, q.2, rfl⟩
    · rw [if_neg q] at hv; cases hv
  refine ⟨fun v u hv => ?_, fun v u hv => ?_, fun v a hv => (by cases hv), fun v u hv _ => hs v u hv, fun v hv ho => ⟨if_pos ⟨hv, ho⟩, rfl⟩, fun v u hv => ⟨0, rfl⟩, fun i u hi hv => ?_⟩
  · obtain ⟨h1, h2, rfl⟩ := hs v u hv
    exact ⟨by omega, by rw [(g.ov0 v h1 h2).2]; exact Nat.le_refl _⟩
  · obtain ⟨h1, h2, rfl⟩ := hs v u hv
    omega
  · obtain ⟨h1, h2, rfl⟩ := hs i u hv
    exact (g.ov0 i h1 h2).1
end Pool2
