/-! chances: how much they are in all -/
set_option maxRecDepth 100000
def tot (D : Nat → Nat) : Nat → Nat
  | 0 => 0
  | n + 1 => tot D n + D n
theorem tot_add1 (D : Nat → Nat) (t0 v : Nat) : ∀ n, tot (fun t => D t + (if t = t0 then v else 0)) n = tot D n + (if t0 < n then v else 0) := by
  intro n
  induction n with
  | zero => rfl
  | succ n ih =>
    show tot _ n + (D n + (if n = t0 then v else 0)) = tot D n + D n + _
    rw [ih]
    by_cases h1 : t0 < n
    · rw [if_pos h1, if_neg (by omega), if_pos (by omega)]
      omega
    · by_cases h2 : n = t0
      · rw [if_neg h1, if_pos h2, if_pos (by omega)]
        omega
      · rw [if_neg h1, if_neg h2, if_neg (by omega)]
        omega
theorem tot_le {D : Nat → Nat} {t : Nat} : ∀ n, t < n → D t ≤ tot D n := by
  intro n
  induction n with
  | zero => intro h; exact absurd h (Nat.not_lt_zero _)
  | succ n ih =>
    intro h
    show D t ≤ tot D n + D n
    by_cases e : t = n
    · rw [e]; omega
    · have := ih (by omega)
      omega
def wsN (P : Nat → Nat) : Nat → Nat
  | 0 => 0
  | c + 1 => wsN P c + wtN P c (P 4)
theorem ws_all {P : Nat → Nat} (hP : Wf P) : wsN P (2 ^ P 4) = 4 ^ P 4 := by
  have hk := hP.2.2.2.2.1
  have hc := fun i hi => (hP.2.2.2.2.2 i hi).2.1
  have key1 : ∀ x, x ≤ 4 → (4 - x) + x = 4 := by decide
  have key2 : ∀ x, x ≤ 4 → ∀ y, y ≤ 4 → (4 - x) * (4 - y) + x * (4 - y) + (4 - x) * y + x * y = 16 := by decide
  have key3 : ∀ x, x ≤ 4 → ∀ y, y ≤ 4 → ∀ z, z ≤ 4 → (4 - x) * (4 - y) * (4 - z) + x * (4 - y) * (4 - z) + (4 - x) * y * (4 - z) + x * y * (4 - z) + (4 - x) * (4 - y) * z + x * (4 - y) * z + (4 - x) * y * z + x * y * z = 64 := by decide
  rcases (by omega : P 4 = 1 ∨ P 4 = 2 ∨ P 4 = 3) with e | e | e
  · have h0 := hc 0 (by omega)
    have : (4 - P 6) + P 6 = 4 := key1 _ h0
    rw [e]
    show 0 + wtN P 0 (P 4) + wtN P 1 (P 4) = 4
    rw [e]
    show 0 + 1 * (4 - P 6) + 1 * P 6 = 4
    omega
  · have h0 := hc 0 (by omega)
    have h1 := hc 1 (by omega)
    have := key2 _ h0 _ h1
    rw [e]
    show 0 + wtN P 0 (P 4) + wtN P 1 (P 4) + wtN P 2 (P 4) + wtN P 3 (P 4) = 16
    rw [e]
    show 0 + 1 * (4 - P 6) * (4 - P 11) + 1 * P 6 * (4 - P 11) + 1 * (4 - P 6) * P 11 + 1 * P 6 * P 11 = 16
    simp only [Nat.one_mul, Nat.zero_add]
    exact this
  · have h0 := hc 0 (by omega)
    have h1 := hc 1 (by omega)
    have h2 := hc 2 (by omega)
    have := key3 _ h0 _ h1 _ h2
    rw [e]
    show 0 + wtN P 0 (P 4) + wtN P 1 (P 4) + wtN P 2 (P 4) + wtN P 3 (P 4) + wtN P 4 (P 4) + wtN P 5 (P 4) + wtN P 6 (P 4) + wtN P 7 (P 4) = 64
    rw [e]
    show 0 + 1 * (4 - P 6) * (4 - P 11) * (4 - P 16) + 1 * P 6 * (4 - P 11) * (4 - P 16) + 1 * (4 - P 6) * P 11 * (4 - P 16) + 1 * P 6 * P 11 * (4 - P 16) + 1 * (4 - P 6) * (4 - P 11) * P 16 + 1 * P 6 * (4 - P 11) * P 16 + 1 * (4 - P 6) * P 11 * P 16 + 1 * P 6 * P 11 * P 16 = 64
    simp only [Nat.one_mul, Nat.zero_add]
    exact this
theorem tot_sp {P : Nat → Nat} (hP : Wf P) {s w : Nat} {D : Nat → Nat} (hs : s < 5 ^ P 4) : ∀ c, c ≤ 2 ^ P 4 → tot (spN P s w D c) (5 ^ P 4) = tot D (5 ^ P 4) + w * wsN P c := by
  have h2 := p2_le hP.2.2.2.2.1.2
  intro c
  induction c with
  | zero => intro _; rfl
  | succ c ih =>
    intro hc
    show tot (fun t => spN P s w D c t + (if t = thN P c s (P 4) then w * wtN P c (P 4) else 0)) (5 ^ P 4) = _
    rw [tot_add1, ih (by omega), if_pos (th_lt hP.2.2.2.2.1.2 (by omega) hs)]
    show _ = _ + w * (wsN P c + wtN P c (P 4))
    rw [Nat.mul_add]
    omega
/-- one day's work over the first n states -/
noncomputable def stN (P : Nat → Nat) (u : Ru) (d : Nat) (D : Nat → Nat) : Nat → Nat → Nat
  | 0 => fun _ => 0
  | s + 1 => spN P (s - ldF P u d s) (D s * (4 - P 3)) (spN P s (D s * P 3) (stN P u d D s) (2 ^ P 4)) (2 ^ P 4)
/-- the chances behind so many days -/
noncomputable def chN (P : Nat → Nat) (u : Ru) : Nat → Nat → Nat
  | 0 => fun t => if t = 0 then 1 else 0
  | j + 1 => stN P u (P 0 - j) (chN P u j) (5 ^ P 4)
theorem tot_st {P : Nat → Nat} (hP : Wf P) {u : Ru} {d : Nat} {D : Nat → Nat} : ∀ n, n ≤ 5 ^ P 4 → tot (stN P u d D n) (5 ^ P 4) = tot D n * 4 ^ (P 4 + 1) := by
  have h5 := p5_le hP.2.2.2.2.1.2
  have h3 := hP.2.2.2.1
  intro n
  induction n with
  | zero =>
    intro _
    have : ∀ m, tot (fun _ => 0) m = 0 := by
      intro m
      induction m with
      | zero => rfl
      | succ m ih => show tot _ m + 0 = 0; rw [ih]
    rw [show tot D 0 = 0 from rfl, Nat.zero_mul]
    exact this _
  | succ n ih =>
    intro hn
    have hle := ldF_le hP (u := u) (d := d) (s := n) (by omega)
    show tot (spN P (n - ldF P u d n) (D n * (4 - P 3)) (spN P n (D n * P 3) (stN P u d D n) (2 ^ P 4)) (2 ^ P 4)) (5 ^ P 4) = (tot D n + D n) * 4 ^ (P 4 + 1)
    rw [tot_sp hP (by omega) _ (Nat.le_refl _), tot_sp hP (by omega) _ (Nat.le_refl _), ih (by omega), ws_all hP, Nat.add_mul, Nat.pow_succ, Nat.add_assoc, ← Nat.add_mul, ← Nat.mul_add, show P 3 + (4 - P 3) = 4 by omega, Nat.mul_comm (4 ^ P 4) 4, Nat.mul_assoc (D n) 4]
theorem chN_tot {P : Nat → Nat} (hP : Wf P) {u : Ru} : ∀ j, tot (chN P u j) (5 ^ P 4) ≤ 4 ^ ((P 4 + 1) * j) := by
  intro j
  induction j with
  | zero =>
    have : ∀ n, tot (chN P u 0) n ≤ 1 ∧ (n = 0 → tot (chN P u 0) n = 0) := by
      intro n
      induction n with
      | zero => exact ⟨Nat.zero_le _, fun _ => rfl⟩
      | succ n ih =>
        refine ⟨?_, fun h => by omega⟩
        show tot (chN P u 0) n + (if n = 0 then 1 else 0) ≤ 1
        by_cases e : n = 0
        · rw [if_pos e, ih.2 e]; exact Nat.le_refl _
        · rw [if_neg e]; exact ih.1
    exact (this _).1
  | succ j ih =>
    show tot (stN P u (P 0 - j) (chN P u j) (5 ^ P 4)) (5 ^ P 4) ≤ _
    rw [tot_st hP _ (Nat.le_refl _), Nat.mul_succ, Nat.pow_add 4 ((P 4 + 1) * j) (P 4 + 1)]
    exact Nat.mul_le_mul_right _ ih
theorem chN_lt {P : Nat → Nat} (hP : Wf P) {u : Ru} {j t : Nat} (hj : j ≤ 6) (ht : t < 5 ^ P 4) : chN P u j t ≤ 4 ^ 24 := by
  have hk := hP.2.2.2.2.1.2
  refine Nat.le_trans (tot_le _ ht) (Nat.le_trans (chN_tot hP j) (Nat.pow_le_pow_right (by omega) ?_))
  exact Nat.le_trans (Nat.mul_le_mul (by omega : P 4 + 1 ≤ 4) hj) (by omega)
