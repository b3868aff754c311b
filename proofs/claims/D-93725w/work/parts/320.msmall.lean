/-! the model's small methods -/
set_option maxRecDepth 100000
theorem i32_to64_le (x : Int32) (y : Int32) : (x.toInt64 ≤ y.toInt64) = (x ≤ y) := by
  rw [Int64.le_iff_toInt_le, Int32.toInt_toInt64, Int32.toInt_toInt64, Int32.le_iff_toInt_le]
theorem i32_to64_lt (x : Int32) (y : Int32) : (x.toInt64 < y.toInt64) = (x < y) := by
  rw [Int64.lt_iff_toInt_lt, Int32.toInt_toInt64, Int32.toInt_toInt64, Int32.lt_iff_toInt_lt]
/-- an int between two naturals, or not -/
theorem i32_rng (x : Int32) (l n : Nat) (hn : n < 2147483648) : (∃ s, l ≤ s ∧ s ≤ n ∧ x = Int32.ofNat s) ∨ ((x.toInt < l ∨ (n : Int) < x.toInt) ∧ ∀ s, l ≤ s → s ≤ n → x ≠ Int32.ofNat s) := by
  by_cases h : (l : Int) ≤ x.toInt ∧ x.toInt ≤ n
  · left
    refine ⟨x.toInt.toNat, by omega, by omega, Int32.toInt_inj.mp ?_⟩
    rw [i32_toInt (by omega)]
    omega
  · right
    refine ⟨by omega, fun s h1 h2 e => h ?_⟩
    rw [e, i32_toInt (by omega)]
    omega
section MSM
variable {M : gM} {a o : Nat} {r ρ : Nat → Nat}
theorem m_in {x : Int32} {l n : Nat} {Q : Int32 → gM → Prop} (hl : l < 2147483648) (hn : n < 2147483648) (h1 : ∀ s, l ≤ s → s ≤ n → x = Int32.ofNat s → Q 1 M) (h0 : (∀ s, l ≤ s → s ≤ n → x ≠ Int32.ofNat s) → Q 0 M) : F_X3_in M x.toInt64 (Int64.ofNat l) (Int64.ofNat n) Q := by
  rw [← i64_of hl, ← i64_of hn]
  unfold F_X3_in
  rw [i32_to64_lt, i32_to64_lt]
  rcases i32_rng x l n hn with ⟨s, g1, g2, rfl⟩ | ⟨g1, g2⟩
  · refine bF (by rw [i32_lt (by omega) hl]; omega) (bF (by rw [i32_lt hn (by omega)]; omega) (h1 s g1 g2 rfl))
  · refine ⟨fun _ => h0 g2, fun c1 => ⟨fun _ => h0 g2, fun c2 => ?_⟩⟩
    rw [Int32.lt_iff_toInt_lt, i32_toInt hl] at c1
    rw [Int32.lt_iff_toInt_lt, i32_toInt hn] at c2
    omega
theorem m_inN {x : Int32} {n : Nat} {Q : Int32 → gM → Prop} (hn : n < 2147483648) (h1 : ∀ s, s < n → x = Int32.ofNat s → Q 1 M) (h0 : (∀ s, s < n → x ≠ Int32.ofNat s) → Q 0 M) : F_X3_in M x.toInt64 (0 : Int64) ((Int32.ofNat n - (1 : Int32)).toInt64) Q := by
  cases n with
  | zero =>
    unfold F_X3_in
    have e : (Int32.ofNat 0 - (1 : Int32)).toInt64 = (-1 : Int32).toInt64 := by decide
    have e0 : (0 : Int64) = (0 : Int32).toInt64 := by decide
    rw [e, e0, i32_to64_lt, i32_to64_lt]
    have g : Q 0 M := h0 (fun s hs => absurd hs (Nat.not_lt_zero _))
    refine ⟨fun _ => g, fun c => ⟨fun _ => g, fun c2 => ?_⟩⟩
    rw [Int32.lt_iff_toInt_lt] at c c2
    have e1 : (-1 : Int32).toInt = -1 := by decide
    have e2 : (0 : Int32).toInt = 0 := by decide
    omega
  | succ n =>
    rw [i32_lit 1, i32_sub (by omega), Nat.add_sub_cancel, i64_of (by omega)]
    exact m_in (l := 0) (by omega) (by omega) (fun s _ h e => h1 s (by omega) e) (fun h => h0 (fun s hs => h s (Nat.zero_le _) (by omega)))
theorem m_refuse (h : LayM M a r ρ o) {n : Nat} {x : Int32} {Q : Int32 → gM → Prop} (hx : -x = Int32.ofNat n) (hn : n < 8) (q : Q x (sI M (r 10) n (mI M (r 10) n + 1))) : F_X3_refuse M a x Q := by
  unfold F_X3_refuse
  rw [hx]
  exact m_g1 h rfl (m_aI h rfl hn (by omega) (m_uI h rfl hn (by omega) q))
/-- the model's houses are so many -/
def HmM (M : gM) (a H : Nat) : Prop := mI M a 11 = Int32.ofNat H
theorem m_isHouse (h : LayM M a r ρ o) {x : Int32} {H : Nat} {Q : Int32 → gM → Prop} (hH : HmM M a H) (hH6 : H ≤ 6) (h1 : ∀ s, s < H → x = Int32.ofNat s → Q 1 M) (h0 : (∀ s, s < H → x ≠ Int32.ofNat s) → Q 0 M) : F_X3_isHouse M a x Q := by
  refine m_gI h ?_
  rw [hH]
  exact m_inN (by omega) (fun s hs e => ⟨Or.inr rfl, h1 s hs e⟩) (fun h => ⟨Or.inl rfl, h0 h⟩)
theorem m_states (h : LayM M a r ρ o) {x : Nat} {P : Nat → Nat} {Q : Int32 → gM → Prop} (hx : x < 8) (hP : HsM M r x P) (hk : P 4 ≤ 3) (q : Q (Int32.ofNat (5 ^ P 4)) M) : F_X3_states M a (Int32.ofNat x) Q := m_rc h (m_sorts h hx hP (m_power (by omega) q))
theorem m_scaleOf (h : LayM M a r ρ o) {x d : Nat} {P : Nat → Nat} {Q : Int64 → gM → Prop} (hx : x < 8) (hP : HsM M r x P) (hk : P 4 ≤ 3) (hd : d ≤ 6) (q : Q (Int64.ofNat (4 ^ (d * (1 + P 4)))) M) : F_X3_scaleOf M a (Int32.ofNat x) (Int32.ofNat d) Q := by
  have hm : d * (1 + P 4) ≤ 24 := Nat.le_trans (Nat.mul_le_mul hd (by omega : 1 + P 4 ≤ 4)) (by decide)
  have key : ∀ (e i f : Nat), i + e = d * (1 + P 4) → e < f → F_X3_scaleOf_b5 Q a (Int32.ofNat x) (Int32.ofNat d) f (Int64.ofNat (4 ^ i)) (Int32.ofNat i) M := by
    intro e
    induction e with
    | zero =>
      intro i f hi hf
      obtain ⟨f, rfl⟩ : ∃ g, f = g + 1 := ⟨f - 1, by omega⟩
      refine m_rc h (m_sorts h hx hP (bT (by rw [i32_lit 1, i32_add, i32_mul, i32_le (by omega) (by omega)]; omega) ?_))
      rw [show i = d * (1 + P 4) by omega]
      exact q
    | succ e ih =>
      intro i f hi hf
      obtain ⟨f, rfl⟩ : ∃ g, f = g + 1 := ⟨f - 1, by omega⟩
      refine m_rc h (m_sorts h hx hP (bF (by rw [i32_lit 1, i32_add, i32_mul, i32_le (by omega) (by omega)]; omega) ?_))
      have := ih (i + 1) f (by omega) (by omega)
      rw [i32_lit 1, i32_add, i64_lit 4, i64_mul, ← Nat.pow_succ]
      exact this
  exact ⟨d * (1 + P 4) + 1, key (d * (1 + P 4)) 0 (d * (1 + P 4) + 1) (by omega) (by omega)⟩
theorem i32_rem5 {s : Nat} (hs : s < 2147483648) : Int32.ofNat s - Int32.ofNat s / (5 : Int32) * (5 : Int32) = Int32.ofNat (s % 5) := by
  rw [i32_lit 5, i32_div hs (by omega), i32_mul, i32_sub (Nat.div_mul_le_self _ _)]
  congr 1
  omega
/-- a load of a state, that goes into the box -/
def isLd (P : Nat → Nat) (s l : Nat) : Prop := (dg l 0 ≤ dg s 0 ∧ dg l 1 ≤ dg s 1 ∧ dg l 2 ≤ dg s 2) ∧ sm P 0 l ≤ P 2
theorem dg_0 (s : Nat) : dg s 0 = s % 5 := by unfold dg; rw [Nat.pow_zero, Nat.div_one]
theorem dg_1 (s : Nat) : dg s 1 = s / 5 % 5 := by unfold dg; rw [Nat.pow_one]
theorem dg_2 {s : Nat} (h : s < 125) : dg s 2 = s / 25 := by unfold dg; omega
theorem sm_le {P : Nat → Nat} (hP : Wf P) (s : Nat) : ∀ n, n ≤ P 4 → smN P 0 s n ≤ 36 * n := by
  intro n
  induction n with
  | zero => intro _; exact Nat.zero_le _
  | succ n ih =>
    intro hn
    have h1 := ih (by omega)
    have h2 := (hP.2.2.2.2.2 n (by omega)).1.2
    have h3 : dg s n ≤ 4 := by unfold dg; omega
    have h4 : dg s n * P (5 + 5 * n + 0) ≤ 4 * 9 := Nat.mul_le_mul h3 h2
    show smN P 0 s n + dg s n * P (5 + 5 * n + 0) ≤ _
    omega
theorem sm0_lt {P : Nat → Nat} (hP : Wf P) (s : Nat) : sm P 0 s ≤ 108 := by
  have := sm_le hP s (P 4) (Nat.le_refl _)
  have := hP.2.2.2.2.1.2
  unfold sm
  omega
theorem m_isLoad (h : LayM M a r ρ o) {x s l : Nat} {P : Nat → Nat} {Q : Int32 → gM → Prop} (hx : x < 8) (hP : HsM M r x P) (hw : Wf P) (hs : s < 125) (hl : l < 125) (h1 : isLd P s l → Q 1 M) (h0 : ¬ isLd P s l → Q 0 M) : F_X3_isLoad M a (Int32.ofNat x) (Int32.ofNat s) (Int32.ofNat l) Q := by
  unfold F_X3_isLoad
  have hm := sm0_lt hw l
  have hr := hw.2.2.1
  unfold isLd at h1 h0
  rw [dg_0, dg_0, dg_1, dg_1, dg_2 hs, dg_2 hl] at h1 h0
  have d5 : ∀ z, z < 125 → Int32.ofNat z / (5 : Int32) = Int32.ofNat (z / 5) := fun z hz => i32_div (b := 5) (by omega) (by omega)
  have d25 : ∀ z, z < 125 → Int32.ofNat z / (25 : Int32) = Int32.ofNat (z / 25) := fun z hz => i32_div (b := 25) (by omega) (by omega)
  rw [i32_rem5 (by omega), i32_rem5 (by omega), d5 s hs, d5 l hl, d25 s hs, d25 l hl, i32_rem5 (by omega), i32_rem5 (by omega), i32_lt (by omega) (by omega), i32_lt (by omega) (by omega), i32_le (by omega) (by omega)]
  refine ⟨fun c => h0 (fun z => by omega), fun c1 => ⟨fun c => h0 (fun z => by omega), fun c2 => ⟨fun c3 => ?_, fun c => h0 (fun z => by omega)⟩⟩⟩
  refine m_rc h (m_sum (w := 0) h hx hP hw.2.2.2.2.1.2 (by omega) (by omega) (m_g2 h rfl (m_aN h rfl hx (by omega) (m_bI (i := 2) h rfl hx (by omega) (by omega) ?_))))
  rw [hP 2 (by omega), i32_lt (by omega) (by omega)]
  exact ⟨fun c => h0 (fun z => by omega), fun c => h1 ⟨⟨by omega, by omega, by omega⟩, by omega⟩⟩
end MSM
