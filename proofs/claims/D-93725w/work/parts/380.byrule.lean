/-! costs by a rule -/
set_option maxRecDepth 100000
/-- what of a state is done -/
def dsm (s x : Nat) : Nat := (if bt x 0 then dg s 0 * 1 else 0) + (if bt x 1 then dg s 1 * 5 else 0) + (if bt x 2 then dg s 2 * 25 else 0)
theorem bt_sb : ∀ x, x < 8 → ∀ i, i < 3 → ∀ j, j < 3 → bt (sb x i) j = (bt x j || decide (j = i)) := by decide
theorem dsm_sb {s x i : Nat} (hx : x < 8) (hi : i < 3) (hb : bt x i = false) : dsm s (sb x i) = dsm s x + dg s i * 5 ^ i := by
  unfold dsm
  rw [bt_sb x hx i hi 0 (by omega), bt_sb x hx i hi 1 (by omega), bt_sb x hx i hi 2 (by omega)]
  rcases (by omega : i = 0 ∨ i = 1 ∨ i = 2) with rfl | rfl | rfl
  · rw [hb]; simp; omega
  · rw [hb]; simp; omega
  · rw [hb]; simp
theorem dsm_le {s x : Nat} (hs : s < 125) : dsm s x ≤ s := by
  unfold dsm
  rw [dg_0, dg_1, dg_2 hs]
  have h1 : (if bt x 0 then s % 5 * 1 else 0) ≤ s % 5 := by split <;> omega
  have h2 : (if bt x 1 then s / 5 % 5 * 5 else 0) ≤ s / 5 % 5 * 5 := by split <;> omega
  have h3 : (if bt x 2 then s / 25 * 25 else 0) ≤ s / 25 * 25 := by split <;> omega
  omega
theorem fl_le {P : Nat → Nat} (hP : Wf P) {s : Nat} (hs : s < 125) : fl P s ≤ s := by
  have key : ∀ t, t ≤ P 4 → (flN P s t).1 ≤ dsm s (flN P s t).2.2 := by
    intro t
    induction t with
    | zero => intro _; exact Nat.zero_le _
    | succ t ih =>
      intro ht
      obtain ⟨h1, h2, h3, h4⟩ := flN_inv hP s t (by omega)
      obtain ⟨i, hi⟩ := dr_there (P := P) (x := (flN P s t).2.2) hP.2.2.2.2.1.2 (by omega)
      obtain ⟨g1, g2⟩ := drN_some hi
      have h9 := hP.2.2.2.2.1.2
      have e : flN P s (t + 1) = ((flN P s t).1 + min (dg s i) ((flN P s t).2.1 / P (5 + 5 * i)) * 5 ^ i, (flN P s t).2.1 - min (dg s i) ((flN P s t).2.1 / P (5 + 5 * i)) * P (5 + 5 * i), sb (flN P s t).2.2 i) := by
        show (match drN P (flN P s t).2.2 (P 4) with | none => flN P s t | some i => _) = _
        rw [hi]
      rw [e]
      show _ + _ ≤ dsm s (sb _ i)
      rw [dsm_sb h3 (by omega) g2]
      have := ih (by omega)
      have hm : min (dg s i) ((flN P s t).2.1 / P (5 + 5 * i)) * 5 ^ i ≤ dg s i * 5 ^ i := Nat.mul_le_mul_right _ (Nat.min_le_left _ _)
      omega
  exact Nat.le_trans (key (P 4) (Nat.le_refl _)) (dsm_le hs)
/-- the load by a rule, as a number -/
noncomputable def ldF (P : Nat → Nat) (u : Ru) (d s : Nat) : Nat :=
  haveI := Classical.propDecidable (flls P u d s)
  if u.1 = 4 then LT P (fun _ => false) d s else if flls P u d s then fl P s else 0
theorem ldF_4 {P : Nat → Nat} {u : Ru} {d s : Nat} (h : u.1 = 4) : ldF P u d s = LT P (fun _ => false) d s := if_pos h
theorem ldF_y {P : Nat → Nat} {u : Ru} {d s : Nat} (h : u.1 ≠ 4) (g : flls P u d s) : ldF P u d s = fl P s := by
  unfold ldF
  rw [if_neg h, if_pos g]
theorem ldF_n {P : Nat → Nat} {u : Ru} {d s : Nat} (h : u.1 ≠ 4) (g : ¬ flls P u d s) : ldF P u d s = 0 := by
  unfold ldF
  rw [if_neg h, if_neg g]
theorem LT_le (P : Nat → Nat) (mu : Nat → Bool) (d s : Nat) : LT P mu d s ≤ s := by
  cases d with
  | zero => exact Nat.zero_le _
  | succ d => exact bsN_le _ _ _ _ _ _
theorem ldF_le {P : Nat → Nat} (hP : Wf P) {u : Ru} {d s : Nat} (hs : s < 125) : ldF P u d s ≤ s := by
  by_cases h : u.1 = 4
  · rw [ldF_4 h]; exact LT_le _ _ _ _
  · by_cases g : flls P u d s
    · rw [ldF_y h g]; exact fl_le hP hs
    · rw [ldF_n h g]; exact Nat.zero_le _
theorem ldB_F {P : Nat → Nat} {u : Ru} {d s n : Nat} (h : ldB P u d s n) : n = ldF P u d s := by
  by_cases h4 : u.1 = 4
  · rw [ldF_4 h4]; exact h.1 h4
  · by_cases g : flls P u d s
    · rw [ldF_y h4 g]; exact h.2.1 h4 g
    · rw [ldF_n h4 g]; exact h.2.2 h4 g
/-- the cost by a rule -/
noncomputable def MT (P : Nat → Nat) (u : Ru) : Nat → Nat → Int64
  | 0, s => Int64.ofNat (sm P 4 s)
  | d + 1, s => Int64.ofNat (P 3) * bh P (d + 1) s (MT P u d) + Int64.ofNat (4 - P 3) * (if ldF P u (d + 1) s = 0 then bh P (d + 1) s (MT P u d) else bx P (d + 1) + bh P (d + 1) (s - ldF P u (d + 1) s) (MT P u d))
