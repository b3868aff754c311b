/-! rules -/
set_option maxRecDepth 100000
/-- a rule: its kind, its number, what it is told -/
abbrev Ru : Type := Nat × Nat × (Nat → Bool)
def WfR (u : Ru) : Prop := (1 ≤ u.1 ∧ u.1 ≤ 5) ∧ (u.1 = 1 → u.2.1 ≤ 99) ∧ (u.1 = 2 → 1 ≤ u.2.1 ∧ u.2.1 ≤ 6) ∧ (u.1 = 3 → u.2.1 ≤ 999 ∧ 1 ≤ u.2.1 % 10 ∧ u.2.1 % 10 ≤ 6)
/-- whether a rule of another kind than 4 fills -/
def flls (P : Nat → Nat) (u : Ru) (d s : Nat) : Prop := match u.1 with
  | 1 => u.2.1 ≤ sm P 0 s
  | 2 => d % u.2.1 = 0
  | 3 => u.2.1 / 10 ≤ sm P 0 s ∨ d % (u.2.1 % 10) = 0
  | _ => u.2.2 s = true
/-- the rule in a place of the model -/
def RuM (M : gM) (r : Nat → Nat) (s : Nat) (u : Ru) : Prop := mI M (r 5) s = Int32.ofNat u.1 ∧ (u.1 ≤ 3 → mI M (r 6) s = Int32.ofNat u.2.1) ∧ (u.1 = 5 → ∀ i, i < 125 → mI M (r 7 + 1 + s) i = if u.2.2 i then 1 else 0)
theorem i32_rem {a b : Nat} (ha : a < 2147483648) (hb : b < 2147483648) : Int32.ofNat a - Int32.ofNat a / Int32.ofNat b * Int32.ofNat b = Int32.ofNat (a % b) := by
  rw [i32_div ha hb, i32_mul, i32_sub (Nat.div_mul_le_self _ _)]
  congr 1
  have := Nat.div_add_mod a b
  rw [Nat.mul_comm] at this
  omega
section MRULE
variable {M : gM} {a o : Nat} {r ρ P : Nat → Nat}
theorem m_fillsBy (h : LayM M a r ρ o) {d s n : Nat} {u : Ru} {Q : Int32 → gM → Prop} (hn : n < 10) (hu : RuM M r n u) (hwu : WfR u) (h4 : u.1 ≠ 4) (hd : d ≤ 6) (hs : s < 125) (hm : sm P 0 s ≤ 108) (h1 : flls P u d s → Q 1 M) (h0 : ¬ flls P u d s → Q 0 M) : F_X3_fillsBy M a (Int32.ofNat d) (Int32.ofNat s) (Int32.ofNat n) (Int32.ofNat (sm P 0 s)) Q := by
  obtain ⟨k, b, f⟩ := u
  obtain ⟨⟨k1, k5⟩, w1, w2, w3⟩ := hwu
  obtain ⟨u1, u2, u3⟩ := hu
  unfold flls at h1 h0
  simp only at h1 h0 k1 k5 w1 w2 w3 u1 u2 u3 h4
  refine m_g1 h rfl (m_aI h rfl hn (by omega) ?_)
  rw [u1, i32_toInt (by omega), i32_lit 1, i32_lit 2, i32_lit 3, i32_eq (by omega) (by omega), i32_eq (by omega) (by omega), i32_eq (by omega) (by omega)]
  rcases (by omega : k = 1 ∨ k = 2 ∨ k = 3 ∨ k = 5) with rfl | rfl | rfl | rfl
  · have hb := w1 rfl
    refine ⟨fun z => by omega, fun _ => ?_, fun z => by omega, fun z => by omega⟩
    refine m_g1 h rfl (m_aI h rfl hn (by omega) ?_)
    rw [u2 (by omega), i32_lt (by omega) (by omega)]
    exact ⟨fun z => h0 (by show ¬ b ≤ _; omega), fun z => h1 (by show b ≤ _; omega)⟩
  · have hb := w2 rfl
    refine ⟨fun z => by omega, fun z => by omega, fun _ => ?_, fun z => by omega⟩
    refine m_g1 h rfl (m_aI h rfl hn (by omega) ?_)
    rw [u2 (by omega), i32_rem (by omega) (by omega), i32_lit 0, i32_eq (Nat.lt_of_lt_of_le (Nat.mod_lt _ (by omega)) (by omega)) (by omega)]
    refine ⟨?_, fun z => h0 z, fun z => h1 z⟩
    intro z
    rw [i32_lit 0, i32_eq (by omega) (by omega)] at z
    omega
  · have hb := w3 rfl
    refine ⟨fun z => by omega, fun z => by omega, fun z => by omega, fun _ => ?_⟩
    refine m_g1 h rfl (m_aI h rfl hn (by omega) ?_)
    rw [u2 (by omega), i32_lit 10, i32_div (by omega) (by omega), i32_le (by omega) (by omega)]
    refine ⟨fun z => h1 (Or.inl z), fun z => m_g1 h rfl (m_aI h rfl hn (by omega) ?_)⟩
    rw [u2 (by omega), i32_rem (by omega) (by omega), i32_rem (by omega) (by omega), i32_lit 0, i32_eq (Nat.lt_of_lt_of_le (Nat.mod_lt _ (by omega)) (by omega)) (by omega)]
    refine ⟨?_, fun y => h0 (fun y2 => y2.elim z y), fun y => h1 (Or.inr y)⟩
    intro y
    rw [i32_lit 0, i32_eq (by omega) (by omega)] at y
    omega
  · refine ⟨fun _ => ?_, fun z => by omega, fun z => by omega, fun z => by omega⟩
    refine m_g2 h rfl (m_aN h rfl hn (by omega) (m_bI h rfl hn (by omega) (by omega) ?_))
    rw [u3 rfl s hs]
    by_cases e : f s = true
    · rw [if_pos e]
      exact ⟨fun z => absurd rfl z, fun _ => h1 e⟩
    · rw [if_neg e]
      exact ⟨fun _ => h0 e, fun z => absurd z (by decide)⟩
/-- the load by a rule -/
def ldB (P : Nat → Nat) (u : Ru) (d s : Nat) (n : Nat) : Prop := (u.1 = 4 → n = LT P (fun _ => false) d s) ∧ (u.1 ≠ 4 → flls P u d s → n = fl P s) ∧ (u.1 ≠ 4 → ¬ flls P u d s → n = 0)
theorem m_loadBy (h : LayM M a r ρ o) {x d s n : Nat} {u : Ru} {Q : Int32 → gM → Prop} (hx : x < 8) (hP : HsM M r x P) (hw : Wf P) (hn : n < 10) (hu : RuM M r n u) (hwu : WfR u) (hb : Bst M r P (fun _ => false) (P 0 + 1)) (hd : d ≤ P 0) (hs : s < 5 ^ P 4) (q : ∀ l, ldB P u d s l → Q (Int32.ofNat l) M) : F_X3_loadBy M a (Int32.ofNat x) (Int32.ofNat d) (Int32.ofNat s) (Int32.ofNat n) Q := by
  have hk := hw.2.2.2.2.1
  have h5 := p5_le hk.2
  have hd0 := hw.1
  have hm := sm0_lt hw s
  refine m_g1 h rfl (m_aI h rfl hn (by omega) ?_)
  rw [hu.1, i32_lit 4, i32_eq (by have := hwu.1.2; omega) (by omega)]
  refine ⟨fun z => m_rc h (m_sum (w := 0) h hx hP hk.2 (by omega) (by omega) (m_rc h (m_fillsBy (P := P) h hn hu hwu z (by omega) (by omega) hm (fun y => bF (by decide) ?_) (fun y => bT rfl ?_)))), fun z => m_g2 h rfl (m_aN h rfl (by omega) (by omega) (m_bI h rfl (by omega) (by omega) (by omega) ?_))⟩
  · exact m_rc h (m_fillOf h hx hP hw (by omega) (q _ ⟨fun z' => absurd z' z, fun _ _ => rfl, fun _ y' => absurd y y'⟩))
  · exact q 0 ⟨fun z' => absurd z' z, fun _ y' => absurd y' y, fun _ _ => rfl⟩
  · rw [(hb d (by omega) s hs).2]
    exact q _ ⟨fun _ => rfl, fun z' => absurd z z', fun z' => absurd z z'⟩
end MRULE
