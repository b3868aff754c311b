/-! the model's object and rows -/
set_option maxRecDepth 100000
def m1 : Nat → Option (FieldType × Nat) := fun k => match k with
  | 0 => some (.int, 8)
  | 1 => some (.int, 8)
  | 2 => some (.int, 8)
  | 4 => some (.long, 125)
  | 5 => some (.int, 10)
  | 6 => some (.int, 10)
  | 8 => some (.int, 160)
  | 10 => some (.int, 8)
  | 22 => some (.int, 10)
  | 31 => some (.long, 8)
  | 34 => some (.int, 125)
  | 35 => some (.int, 125)
  | 36 => some (.int, 125)
  | 37 => some (.long, 125)
  | _ => none
def m2 : Nat → Option (FieldType × Nat × Nat) := fun k => match k with
  | 3 => some (.long, 8, 125)
  | 7 => some (.int, 10, 125)
  | 12 => some (.int, 8, 20)
  | 28 => some (.long, 7, 125)
  | 29 => some (.int, 7, 125)
  | 30 => some (.long, 7, 125)
  | 32 => some (.int, 8, 125)
  | 33 => some (.int, 8, 125)
  | 38 => some (.long, 7, 125)
  | _ => none
/-- the model at a; r: the address of each field's row (of a row of rows its parts behind it); ρ: what each cell is of -/
def LayM (M : gM) (a : Nat) (r ρ : Nat → Nat) (o : Nat) : Prop :=
  (kd M a = some (true, .inl 3) ∧ ρ a = o + 99) ∧ (∀ k ty n, m1 k = some (ty, n) → mR M a k = some (r k) ∧ kd M (r k) = some (true, .inr (ty, n)) ∧ ρ (r k) = o + k) ∧
  ∀ k ty n K, m2 k = some (ty, n, K) → (mR M a k = some (r k) ∧ kd M (r k) = some (true, .inr (.array ty, n)) ∧ ρ (r k) = o + k) ∧ ∀ j, j < n → mR M (r k) j = some (r k + 1 + j) ∧ kd M (r k + 1 + j) = some (true, .inr (ty, K)) ∧ ρ (r k + 1 + j) = o + k
section LAYM
variable {M : gM} {a o : Nat} {r ρ : Nat → Nat}
theorem m_rc (h : LayM M a r ρ o) {A : Prop} (q : A) : rc M 3 a ∧ A := rc_i h.1.1 q
theorem m_gI (h : LayM M a r ρ o) {k : Nat} {κ : Int32 → Prop} (q : κ (mI M a k)) : gI M 3 a k κ := gI_i h.1.1 q
theorem m_gJ (h : LayM M a r ρ o) {k : Nat} {κ : Int64 → Prop} (q : κ (mJ M a k)) : gJ M 3 a k κ := gJ_i h.1.1 q
theorem m_pI (h : LayM M a r ρ o) {k : Nat} {x : Int32} {κ : gM → Prop} (q : κ (sI M a k x)) : pI M 3 a k x κ := ⟨h.1.1, q⟩
theorem m_pJ (h : LayM M a r ρ o) {k : Nat} {x : Int64} {κ : gM → Prop} (q : κ (sJ M a k x)) : pJ M 3 a k x κ := ⟨h.1.1, q⟩
theorem m_g1 (h : LayM M a r ρ o) {k n : Nat} {ty : FieldType} {κ : Nat → Prop} (hk : m1 k = some (ty, n)) (q : κ (r k)) : gN M 3 a k κ := gN_i h.1.1 (h.2.1 k ty n hk).1 q
theorem m_g2 (h : LayM M a r ρ o) {k n K : Nat} {ty : FieldType} {κ : Nat → Prop} (hk : m2 k = some (ty, n, K)) (q : κ (r k)) : gN M 3 a k κ := gN_i h.1.1 (h.2.2 k ty n K hk).1.1 q
theorem m_aI (h : LayM M a r ρ o) {k n i : Nat} {κ : Int32 → Prop} (hk : m1 k = some (.int, n)) (hi : i < n) (hb : i < 2147483648) (q : κ (mI M (r k) i)) : aI M .int (r k) (Int32.ofNat i) κ := aI_i (h.2.1 k _ n hk).2.1 hi hb q
theorem m_aJ (h : LayM M a r ρ o) {k n i : Nat} {κ : Int64 → Prop} (hk : m1 k = some (.long, n)) (hi : i < n) (hb : i < 2147483648) (q : κ (mJ M (r k) i)) : aJ M (r k) (Int32.ofNat i) κ := aJ_i (h.2.1 k _ n hk).2.1 hi hb q
theorem m_uI (h : LayM M a r ρ o) {k n i : Nat} {x : Int32} {κ : gM → Prop} (hk : m1 k = some (.int, n)) (hi : i < n) (hb : i < 2147483648) (q : κ (sI M (r k) i x)) : uI M (r k) (Int32.ofNat i) x κ := uI_i (h.2.1 k _ n hk).2.1 hi hb q
theorem m_uJ (h : LayM M a r ρ o) {k n i : Nat} {x : Int64} {κ : gM → Prop} (hk : m1 k = some (.long, n)) (hi : i < n) (hb : i < 2147483648) (q : κ (sJ M (r k) i x)) : uJ M (r k) (Int32.ofNat i) x κ := uJ_i (h.2.1 k _ n hk).2.1 hi hb q
theorem m_aN (h : LayM M a r ρ o) {k n K i : Nat} {ty : FieldType} {κ : Nat → Prop} (hk : m2 k = some (ty, n, K)) (hi : i < n) (hb : i < 2147483648) (q : κ (r k + 1 + i)) : aN M (.array ty) (r k) (Int32.ofNat i) κ := aN_i (h.2.2 k ty n K hk).1.2.1 hi hb ((h.2.2 k ty n K hk).2 i hi).1 q
theorem m_bI (h : LayM M a r ρ o) {k n K j i : Nat} {κ : Int32 → Prop} (hk : m2 k = some (.int, n, K)) (hj : j < n) (hi : i < K) (hb : i < 2147483648) (q : κ (mI M (r k + 1 + j) i)) : aI M .int (r k + 1 + j) (Int32.ofNat i) κ := aI_i ((h.2.2 k _ n K hk).2 j hj).2.1 hi hb q
theorem m_bJ (h : LayM M a r ρ o) {k n K j i : Nat} {κ : Int64 → Prop} (hk : m2 k = some (.long, n, K)) (hj : j < n) (hi : i < K) (hb : i < 2147483648) (q : κ (mJ M (r k + 1 + j) i)) : aJ M (r k + 1 + j) (Int32.ofNat i) κ := aJ_i ((h.2.2 k _ n K hk).2 j hj).2.1 hi hb q
theorem m_vI (h : LayM M a r ρ o) {k n K j i : Nat} {x : Int32} {κ : gM → Prop} (hk : m2 k = some (.int, n, K)) (hj : j < n) (hi : i < K) (hb : i < 2147483648) (q : κ (sI M (r k + 1 + j) i x)) : uI M (r k + 1 + j) (Int32.ofNat i) x κ := uI_i ((h.2.2 k _ n K hk).2 j hj).2.1 hi hb q
theorem m_vJ (h : LayM M a r ρ o) {k n K j i : Nat} {x : Int64} {κ : gM → Prop} (hk : m2 k = some (.long, n, K)) (hj : j < n) (hi : i < K) (hb : i < 2147483648) (q : κ (sJ M (r k + 1 + j) i x)) : uJ M (r k + 1 + j) (Int32.ofNat i) x κ := uJ_i ((h.2.2 k _ n K hk).2 j hj).2.1 hi hb q
theorem LayM.sI (h : LayM M a r ρ o) (b j : Nat) (x : Int32) : LayM (sI M b j x) a r ρ o := h
theorem LayM.sJ (h : LayM M a r ρ o) (b j : Nat) (x : Int64) : LayM (sJ M b j x) a r ρ o := h
end LAYM
/-! plain numbers -/
/-- parcels of a sort in a state -/
def dg (s i : Nat) : Nat := s / 5 ^ i % 5
/-- the sum over the sorts of a number (w) of each parcel -/
def smN (P : Nat → Nat) (w s : Nat) : Nat → Nat
  | 0 => 0
  | n + 1 => smN P w s n + dg s n * P (5 + 5 * n + w)
def sm (P : Nat → Nat) (w s : Nat) : Nat := smN P w s (P 4)
/-- the house in a slot of the model -/
def HsM (M : gM) (r : Nat → Nat) (h : Nat) (P : Nat → Nat) : Prop := ∀ i, i < 5 + 5 * P 4 → mI M (r 12 + 1 + h) i = Int32.ofNat (P i)
/-- its numbers are in their ranges -/
def Wf (P : Nat → Nat) : Prop := (1 ≤ P 0 ∧ P 0 ≤ 6) ∧ P 1 ≤ 99 ∧ (1 ≤ P 2 ∧ P 2 ≤ 40) ∧ P 3 ≤ 3 ∧ (1 ≤ P 4 ∧ P 4 ≤ 3) ∧ ∀ i, i < P 4 → (1 ≤ P (5 + 5 * i) ∧ P (5 + 5 * i) ≤ 9) ∧ P (6 + 5 * i) ≤ 4 ∧ P (7 + 5 * i) ≤ 9 ∧ P (8 + 5 * i) ≤ 99 ∧ P (9 + 5 * i) ≤ 99
section MSMALL
variable {M : gM} {a o : Nat} {r ρ : Nat → Nat}
theorem m_power {b n : Nat} {Q : Int32 → gM → Prop} (hn : n < 1000) (q : Q (Int32.ofNat (b ^ n)) M) : F_X3_power M (Int32.ofNat b) (Int32.ofNat n) Q := by
  have key : ∀ (d i f : Nat), i + d = n → d < f → F_X3_power_b4 Q (Int32.ofNat b) (Int32.ofNat n) f (Int32.ofNat (b ^ i)) (Int32.ofNat i) M := by
    intro d
    induction d with
    | zero =>
      intro i f hi hf
      obtain ⟨f, rfl⟩ : ∃ g, f = g + 1 := ⟨f - 1, by omega⟩
      refine bT (by rw [i32_le (by omega) (by omega)]; omega) ?_
      rw [show i = n by omega]
      exact q
    | succ d ih =>
      intro i f hi hf
      obtain ⟨f, rfl⟩ : ∃ g, f = g + 1 := ⟨f - 1, by omega⟩
      refine bF (by rw [i32_le (by omega) (by omega)]; omega) ?_
      have := ih (i + 1) f (by omega) (by omega)
      rw [i32_lit 1, i32_add, i32_mul, ← Nat.pow_succ]
      exact this
  exact ⟨n + 1, key n 0 (n + 1) (by omega) (by omega)⟩
theorem m_sorts (h : LayM M a r ρ o) {x : Nat} {P : Nat → Nat} {Q : Int32 → gM → Prop} (hx : x < 8) (hP : HsM M r x P) (q : Q (Int32.ofNat (P 4)) M) : F_X3_sorts M a (Int32.ofNat x) Q := by
  refine m_g2 h rfl (m_aN h rfl hx (by omega) (m_bI (i := 4) h rfl hx (by omega) (by omega) ?_))
  rw [hP 4 (by omega)]
  exact q
theorem m_numberOf (h : LayM M a r ρ o) {x i w : Nat} {P : Nat → Nat} {Q : Int32 → gM → Prop} (hx : x < 8) (hP : HsM M r x P) (hi : i < 3 ∧ i < P 4) (hw : w < 5) (q : Q (Int32.ofNat (P (5 + 5 * i + w))) M) : F_X3_numberOf M a (Int32.ofNat x) (Int32.ofNat i) (Int32.ofNat w) Q := by
  unfold F_X3_numberOf
  simp only [i32_lit, i32_add, i32_mul]
  refine m_g2 h rfl (m_aN h rfl hx (by omega) (m_bI h rfl hx (by omega) (by omega) ?_))
  rw [hP _ (by omega)]
  exact q
theorem m_ofState {s i : Nat} {Q : Int32 → gM → Prop} (hs : s < 2147483648) (hi : i < 3) (q : Q (Int32.ofNat (dg s i)) M) : F_X3_ofState M (Int32.ofNat s) (Int32.ofNat i) Q := by
  have h5 : 5 ^ i < 2147483648 ∧ 5 ^ i ≠ 0 := by rcases (by omega : i = 0 ∨ i = 1 ∨ i = 2) with rfl | rfl | rfl <;> decide
  unfold F_X3_ofState
  refine m_power (by omega) ?_
  refine ⟨?_, ?_⟩
  · intro e
    rw [i32_lit 0, i32_eq h5.1 (by omega)] at e
    exact h5.2 e
  · rw [i32_div hs h5.1, i32_lit 5, i32_div (Nat.lt_of_le_of_lt (Nat.div_le_self _ _) hs) (by omega), i32_mul, i32_sub (Nat.div_mul_le_self _ _)]
    have e : s / 5 ^ i - s / 5 ^ i / 5 * 5 = dg s i := by
      unfold dg
      omega
    rw [e]
    exact q
theorem m_sum (h : LayM M a r ρ o) {x s w : Nat} {P : Nat → Nat} {Q : Int32 → gM → Prop} (hx : x < 8) (hP : HsM M r x P) (hk : P 4 ≤ 3) (hs : s < 2147483648) (hw : w < 5) (q : Q (Int32.ofNat (sm P w s)) M) : F_X3_sum M a (Int32.ofNat x) (Int32.ofNat s) (Int32.ofNat w) Q := by
  have key : ∀ (d i f : Nat), i + d = P 4 → d < f → F_X3_sum_b6 Q a (Int32.ofNat x) (Int32.ofNat s) (Int32.ofNat w) f (Int32.ofNat (smN P w s i)) (Int32.ofNat i) M := by
    intro d
    induction d with
    | zero =>
      intro i f hi hf
      obtain ⟨f, rfl⟩ : ∃ g, f = g + 1 := ⟨f - 1, by omega⟩
      refine m_rc h (m_sorts h hx hP (bT (by rw [i32_le (by omega) (by omega)]; omega) ?_))
      rw [show i = P 4 by omega]
      exact q
    | succ d ih =>
      intro i f hi hf
      obtain ⟨f, rfl⟩ : ∃ g, f = g + 1 := ⟨f - 1, by omega⟩
      refine m_rc h (m_sorts h hx hP (bF (by rw [i32_le (by omega) (by omega)]; omega) (m_ofState hs (by omega) (m_rc h (m_numberOf h hx hP (by omega) hw ?_)))))
      have := ih (i + 1) f (by omega) (by omega)
      rw [i32_lit 1, i32_mul, i32_add, i32_add]
      exact this
  exact ⟨P 4 + 1, key (P 4) 0 (P 4 + 1) (by omega) (by omega)⟩
end MSMALL
