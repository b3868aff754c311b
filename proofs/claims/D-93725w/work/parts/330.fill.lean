/-! what a box is filled with -/
set_option maxRecDepth 100000
/-- bits of a small number -/
def bt (x i : Nat) : Bool := x / 2 ^ i % 2 == 1
def pc (x : Nat) : Nat := (if bt x 0 then 1 else 0) + (if bt x 1 then 1 else 0) + (if bt x 2 then 1 else 0)
theorem bt_m : ∀ x, x < 8 → ∀ i, i < 3 → ((((Int32.ofNat x >>> (Int32.ofNat i &&& 31)) &&& (1 : Int32)) = 0) = (bt x i = false)) := by
  intro x hx i hi
  have h : ∀ x, x < 8 → ∀ i, i < 3 → decide (((Int32.ofNat x >>> (Int32.ofNat i &&& 31)) &&& (1 : Int32)) = 0) = !(bt x i) := by decide
  have := h x hx i hi
  cases e : bt x i
  · rw [e] at this
    exact propext ⟨fun _ => rfl, fun _ => of_decide_eq_true this⟩
  · rw [e] at this
    exact propext ⟨fun z => absurd z (of_decide_eq_false this), fun z => by cases z⟩
/-- with one more bit -/
def sb (x i : Nat) : Nat := if bt x i then x else x + 2 ^ i
theorem sb_m : ∀ x, x < 8 → ∀ i, i < 3 → (Int32.ofNat x ||| ((1 : Int32) <<< (Int32.ofNat i &&& 31))) = Int32.ofNat (sb x i) := by decide
theorem sb_lt : ∀ x, x < 8 → ∀ i, i < 3 → sb x i < 8 := by decide
theorem sb_pc : ∀ x, x < 8 → ∀ i, i < 3 → bt x i = false → pc (sb x i) = pc x + 1 := by decide
/-- the dearest of the first n sorts that aren't done -/
def drN (P : Nat → Nat) (x : Nat) : Nat → Option Nat
  | 0 => none
  | n + 1 => if bt x n then drN P x n else match drN P x n with
    | none => some n
    | some j => if P (7 + 5 * n) ≤ P (7 + 5 * j) then some j else some n
theorem drN_some {P : Nat → Nat} {x : Nat} : ∀ {n i : Nat}, drN P x n = some i → i < n ∧ bt x i = false := by
  intro n
  induction n with
  | zero => intro i h; cases h
  | succ n ih =>
    intro i h
    unfold drN at h
    by_cases hb : bt x n = true
    · rw [if_pos hb] at h
      have := ih h
      exact ⟨by omega, this.2⟩
    · have hb' : bt x n = false := by simpa using hb
      rw [if_neg hb] at h
      cases e : drN P x n with
      | none =>
        rw [e] at h
        cases h
        exact ⟨by omega, hb'⟩
      | some j =>
        rw [e] at h
        simp only at h
        split at h
        · cases h
          have := ih e
          exact ⟨by omega, this.2⟩
        · cases h
          exact ⟨by omega, hb'⟩
theorem drN_none {P : Nat → Nat} {x : Nat} : ∀ {n : Nat}, drN P x n = none → ∀ i, i < n → bt x i = true := by
  intro n
  induction n with
  | zero => intro _ i h; exact absurd h (Nat.not_lt_zero _)
  | succ n ih =>
    intro h i hi
    unfold drN at h
    by_cases hb : bt x n = true
    · rw [if_pos hb] at h
      by_cases e : i = n
      · rw [e]; exact hb
      · exact ih h i (by omega)
    · rw [if_neg hb] at h
      cases e : drN P x n with
      | none => rw [e] at h; cases h
      | some j =>
        rw [e] at h
        simp only at h
        split at h <;> cases h
theorem dr_there {P : Nat → Nat} {x k : Nat} (hk : k ≤ 3) (h : pc x < k) : ∃ i, drN P x k = some i := by
  cases e : drN P x k with
  | some i => exact ⟨i, rfl⟩
  | none =>
    exfalso
    have g := drN_none e
    unfold pc at h
    rcases (by omega : k = 0 ∨ k = 1 ∨ k = 2 ∨ k = 3) with rfl | rfl | rfl | rfl
    · omega
    · rw [g 0 (by omega)] at h
      simp at h <;> omega
    · rw [g 0 (by omega), g 1 (by omega)] at h
      simp at h <;> omega
    · rw [g 0 (by omega), g 1 (by omega), g 2 (by omega)] at h
      simp at h
/-- the load, what is free, what is done behind some turns -/
def flN (P : Nat → Nat) (s : Nat) : Nat → Nat × Nat × Nat
  | 0 => (0, P 2, 0)
  | t + 1 => match drN P (flN P s t).2.2 (P 4) with
    | none => flN P s t
    | some i => ((flN P s t).1 + min (dg s i) ((flN P s t).2.1 / P (5 + 5 * i)) * 5 ^ i, (flN P s t).2.1 - min (dg s i) ((flN P s t).2.1 / P (5 + 5 * i)) * P (5 + 5 * i), sb (flN P s t).2.2 i)
def fl (P : Nat → Nat) (s : Nat) : Nat := (flN P s (P 4)).1
theorem flN_inv {P : Nat → Nat} (hP : Wf P) (s : Nat) : ∀ t, t ≤ P 4 → (flN P s t).1 ≤ 100 * t ∧ (flN P s t).2.1 ≤ 40 ∧ (flN P s t).2.2 < 8 ∧ pc (flN P s t).2.2 = t := by
  intro t
  induction t with
  | zero =>
    intro _
    have h0 : pc 0 = 0 := by decide
    exact ⟨Nat.le_refl _, hP.2.2.1.2, by show 0 < 8; omega, h0⟩
  | succ t ih =>
    intro ht
    obtain ⟨h1, h2, h3, h4⟩ := ih (by omega)
    obtain ⟨i, hi⟩ := dr_there (P := P) (x := (flN P s t).2.2) hP.2.2.2.2.1.2 (by omega)
    obtain ⟨g1, g2⟩ := drN_some hi
    have h9 := hP.2.2.2.2.1.2
    have e : flN P s (t + 1) = ((flN P s t).1 + min (dg s i) ((flN P s t).2.1 / P (5 + 5 * i)) * 5 ^ i, (flN P s t).2.1 - min (dg s i) ((flN P s t).2.1 / P (5 + 5 * i)) * P (5 + 5 * i), sb (flN P s t).2.2 i) := by
      show (match drN P (flN P s t).2.2 (P 4) with | none => flN P s t | some i => _) = _
      rw [hi]
    rw [e]
    have hd : dg s i ≤ 4 := by unfold dg; omega
    have h5 : 5 ^ i ≤ 25 := by rcases (by omega : i = 0 ∨ i = 1 ∨ i = 2) with rfl | rfl | rfl <;> decide
    have hm : min (dg s i) ((flN P s t).2.1 / P (5 + 5 * i)) * 5 ^ i ≤ 4 * 25 := Nat.mul_le_mul (Nat.le_trans (Nat.min_le_left _ _) hd) h5
    exact ⟨by show _ + _ ≤ _; omega, by show _ - _ ≤ _; omega, sb_lt _ h3 i (by omega), by rw [sb_pc _ h3 i (by omega) g2, h4]⟩
/-- an index or none, as an int -/
def oI (x : Option Nat) : Int32 := match x with
  | none => (-1 : Int32)
  | some i => Int32.ofNat i
theorem oI_ne {i : Nat} (h : i < 2147483648) : ¬ Int32.ofNat i = (-1 : Int32) := by
  intro e
  have := congrArg Int32.toInt e
  rw [i32_toInt h] at this
  have h1 : (-1 : Int32).toInt = -1 := by decide
  omega
section MFILL
variable {M : gM} {a o : Nat} {r ρ : Nat → Nat}
theorem m_fillOf (h : LayM M a r ρ o) {x s : Nat} {P : Nat → Nat} {Q : Int32 → gM → Prop} (hx : x < 8) (hP : HsM M r x P) (hw : Wf P) (hs : s < 2147483648) (q : Q (Int32.ofNat (fl P s)) M) : F_X3_fillOf M a (Int32.ofNat x) (Int32.ofNat s) Q := by
  have hk := hw.2.2.2.2.1
  have inner : ∀ (K : Int32 → Int32 → Int32 → Int32 → gM → Prop) (t l f d : Nat), d < 8 → f ≤ 40 → (∀ i, drN P d (P 4) = some i → K (Int32.ofNat (l + min (dg s i) (f / P (5 + 5 * i)) * 5 ^ i)) (Int32.ofNat (f - min (dg s i) (f / P (5 + 5 * i)) * P (5 + 5 * i))) (Int32.ofNat (sb d i)) (Int32.ofNat (t + 1)) M) → (∃ i, drN P d (P 4) = some i) →
      ∀ (e j g : Nat), j + e = P 4 → e < g → F_X3_fillOf_b34 Q K a (Int32.ofNat x) (Int32.ofNat s) (Int32.ofNat l) (Int32.ofNat f) (Int32.ofNat d) (Int32.ofNat t) g (oI (drN P d j)) (Int32.ofNat j) M := by
    intro K t l f d hd hf hK hex e
    induction e with
    | zero =>
      intro j g hj hg
      obtain ⟨g, rfl⟩ : ∃ z, g = z + 1 := ⟨g - 1, by omega⟩
      have hj : j = P 4 := by omega
      subst hj
      obtain ⟨i, hi⟩ := hex
      obtain ⟨i1, i2⟩ := drN_some hi
      have hz : 1 ≤ P (5 + 5 * i + 0) ∧ P (5 + 5 * i + 0) ≤ 9 := (hw.2.2.2.2.2 i i1).1
      rw [hi]
      refine m_rc h (m_sorts h hx hP (bT (by rw [i32_le (by omega) (by omega)]; omega) (m_rc h (m_numberOf (i := i) (w := 0) h hx hP (by omega) (by omega) ?_))))
      have hfd : f / P (5 + 5 * i + 0) ≤ f := Nat.div_le_self _ _
      have hdg : dg s i ≤ 4 := by unfold dg; omega
      have h5 : 5 ^ i ≤ 25 := by rcases (by omega : i = 0 ∨ i = 1 ∨ i = 2) with rfl | rfl | rfl <;> decide
      refine ⟨?_, ?_⟩
      · intro z
        rw [i32_lit 0, i32_eq (by omega) (by omega)] at z
        omega
      refine m_ofState hs (by omega) ?_
      rw [i32_div (by omega) (by omega), i32_le (by omega) (by omega), show oI (some i) = Int32.ofNat i from rfl, sb_m d hd i (by omega)]
      have key : ∀ n, n = min (dg s i) (f / P (5 + 5 * i)) → F_X3_fillOf_b137 Q K a (Int32.ofNat x) (Int32.ofNat s) (Int32.ofNat l) (Int32.ofNat f) (Int32.ofNat (sb d i)) (Int32.ofNat t) (Int32.ofNat i) (Int32.ofNat (P (5 + 5 * i + 0))) (Int32.ofNat n) M := by
        intro n hn
        refine m_power (b := 5) (by omega) ?_
        have hle : n * P (5 + 5 * i + 0) ≤ f := by
          rw [hn]
          exact Nat.le_trans (Nat.mul_le_mul_right _ (Nat.min_le_right _ _)) (Nat.div_mul_le_self _ _)
        rw [i32_lit 1, i32_mul, i32_mul, i32_add, i32_add, i32_sub hle, hn]
        exact hK i hi
      refine ⟨fun c => key _ ?_, fun c => m_ofState hs (by omega) (key _ ?_)⟩
      · exact (Nat.min_eq_right c).symm
      · exact (Nat.min_eq_left (by have : f / P (5 + 5 * i + 0) = f / P (5 + 5 * i) := rfl; omega)).symm
    | succ e ih =>
      intro j g hj hg
      obtain ⟨g, rfl⟩ : ∃ z, g = z + 1 := ⟨g - 1, by omega⟩
      have hI := ih (j + 1) g (by omega) (by omega)
      refine m_rc h (m_sorts h hx hP (bF (by rw [i32_le (by omega) (by omega)]; omega) ?_))
      rw [bt_m d hd j (by omega)]
      have go : ∀ v, v = drN P d (j + 1) → (F_X3_fillOf_b34 Q K a (Int32.ofNat x) (Int32.ofNat s) (Int32.ofNat l) (Int32.ofNat f) (Int32.ofNat d) (Int32.ofNat t) g) (oI v) (Int32.ofNat j + (1 : Int32)) M := by
        intro v hv
        rw [hv, i32_lit 1, i32_add]
        exact hI
      refine ⟨fun c => go _ ?_, fun c => ⟨fun c2 => ?_, fun c2 => ?_⟩⟩
      · show _ = (if bt d j then _ else _)
        rw [if_pos (by simpa using c)]
      · have e9 : drN P d j = none := by
          cases e9 : drN P d j with
          | none => rfl
          | some i =>
            rw [e9] at c2
            have := (drN_some e9).1
            exact absurd c2 (oI_ne (by omega))
        have := go (some j) (by
          show _ = (if bt d j then _ else _)
          rw [c, e9]
          rfl)
        exact this
      · cases e9 : drN P d j with
        | none => rw [e9] at c2; exact absurd rfl c2
        | some i =>
          have hij := (drN_some e9).1
          have b1 := (hw.2.2.2.2.2 j (by omega)).2.2.1
          have b2 := (hw.2.2.2.2.2 i (by omega)).2.2.1
          refine m_rc h (m_numberOf (i := j) (w := 2) h hx hP (by omega) (by omega) (m_rc h (m_numberOf (i := i) (w := 2) h hx hP (by omega) (by omega) ?_)))
          rw [show 5 + 5 * j + 2 = 7 + 5 * j by omega, show 5 + 5 * i + 2 = 7 + 5 * i by omega, i32_le (by omega) (by omega)]
          have e8 : drN P d (j + 1) = if P (7 + 5 * j) ≤ P (7 + 5 * i) then some i else some j := by
            show (if bt d j then _ else _) = _
            rw [c, e9]
            rfl
          refine ⟨fun c3 => ?_, fun c3 => ?_⟩
          · exact go (some i) (by rw [e8, if_pos c3])
          · exact go (some j) (by rw [e8, if_neg c3])
  have outer : ∀ (e t g : Nat), t + e = P 4 → e < g → F_X3_fillOf_b18 Q a (Int32.ofNat x) (Int32.ofNat s) g (Int32.ofNat (flN P s t).1) (Int32.ofNat (flN P s t).2.1) (Int32.ofNat (flN P s t).2.2) (Int32.ofNat t) M := by
    intro e
    induction e with
    | zero =>
      intro t g ht hg
      obtain ⟨g, rfl⟩ : ∃ z, g = z + 1 := ⟨g - 1, by omega⟩
      refine m_rc h (m_sorts h hx hP (bT (by rw [i32_le (by omega) (by omega)]; omega) ?_))
      rw [show t = P 4 by omega]
      exact q
    | succ e ih =>
      intro t g ht hg
      obtain ⟨g, rfl⟩ : ∃ z, g = z + 1 := ⟨g - 1, by omega⟩
      obtain ⟨v1, v2, v3, v4⟩ := flN_inv hw s t (by omega)
      obtain ⟨i, hi⟩ := dr_there (P := P) (x := (flN P s t).2.2) hk.2 (by omega)
      refine m_rc h (m_sorts h hx hP (bF (by rw [i32_le (by omega) (by omega)]; omega) ⟨P 4 + 1, ?_⟩))
      refine inner _ t _ _ _ v3 v2 (fun i' hi' => ?_) ⟨i, hi⟩ (P 4) 0 (P 4 + 1) (by omega) (by omega)
      have := ih (t + 1) g (by omega) (by omega)
      have e8 : flN P s (t + 1) = ((flN P s t).1 + min (dg s i') ((flN P s t).2.1 / P (5 + 5 * i')) * 5 ^ i', (flN P s t).2.1 - min (dg s i') ((flN P s t).2.1 / P (5 + 5 * i')) * P (5 + 5 * i'), sb (flN P s t).2.2 i') := by
        show (match drN P (flN P s t).2.2 (P 4) with | none => flN P s t | some i => _) = _
        rw [hi']
      rw [e8] at this
      exact this
  refine m_g2 h rfl (m_aN h rfl hx (by omega) (m_bI (i := 2) h rfl hx (by omega) (by omega) ⟨P 4 + 1, ?_⟩))
  rw [hP 2 (by omega)]
  exact outer (P 4) 0 (P 4 + 1) (by omega) (by omega)
end MFILL
