/-! what comes behind a day -/
set_option maxRecDepth 100000
/-- the scale of so many days -/
def scl (P : Nat → Nat) (d : Nat) : Nat := 4 ^ (d * (1 + P 4))
def bhN (P : Nat → Nat) (d s : Nat) (f : Nat → Int64) : Nat → Int64
  | 0 => Int64.ofNat (sm P 2 s) * Int64.ofNat (4 ^ P 4) * Int64.ofNat (scl P (d - 1))
  | c + 1 => bhN P d s f c + Int64.ofNat (wtN P c (P 4)) * (Int64.ofNat (rfN P c s (P 4)) * Int64.ofNat (scl P (d - 1)) + f (thN P c s (P 4)))
/-- behind a day (d left) on which s was left, by what each state is worth then -/
def bh (P : Nat → Nat) (d s : Nat) (f : Nat → Int64) : Int64 := bhN P d s f (2 ^ P 4)
/-- a box, in the same measure -/
def bx (P : Nat → Nat) (d : Nat) : Int64 := Int64.ofNat (P 1) * Int64.ofNat (4 ^ P 4) * Int64.ofNat (scl P (d - 1))
theorem thN_P (P P' : Nat → Nat) (c s : Nat) : ∀ n, thN P c s n = thN P' c s n := by
  intro n
  induction n with
  | zero => rfl
  | succ n ih =>
    show thN P c s n + _ = thN P' c s n + _
    rw [ih]
theorem th_lt0 : ∀ k, k < 4 → ∀ c, c < 8 → ∀ s, s < 125 → s < 5 ^ k → thN (fun _ => 0) c s k < 5 ^ k := by decide +kernel
theorem th_lt {P : Nat → Nat} {k c s : Nat} (hk : k ≤ 3) (hc : c < 8) (hs : s < 5 ^ k) : thN P c s k < 5 ^ k := by
  rw [thN_P P (fun _ => 0)]
  exact th_lt0 k (by omega) c hc s (Nat.lt_of_lt_of_le hs (p5_le hk)) hs
theorem wtN_le {P : Nat → Nat} (hP : Wf P) (c : Nat) : ∀ n, n ≤ P 4 → wtN P c n ≤ 4 ^ n := by
  intro n
  induction n with
  | zero => intro _; exact Nat.le_refl _
  | succ n ih =>
    intro hn
    have h1 := (hP.2.2.2.2.2 n (by omega)).2.1
    have h2 : (if bt c n then P (6 + 5 * n) else 4 - P (6 + 5 * n)) ≤ 4 := by split <;> omega
    exact Nat.mul_le_mul (ih (by omega)) h2
theorem rfN_le {P : Nat → Nat} (hP : Wf P) (c s : Nat) : ∀ n, n ≤ P 4 → rfN P c s n ≤ 99 * n := by
  intro n
  induction n with
  | zero => intro _; exact Nat.le_refl _
  | succ n ih =>
    intro hn
    have h1 := (hP.2.2.2.2.2 n (by omega)).2.2.2.1
    have h2 : (if bt c n = true ∧ dg s n = 4 then P (8 + 5 * n) else 0) ≤ 99 := by split <;> omega
    have := ih (by omega)
    show rfN P c s n + _ ≤ _
    omega
theorem sm_leW {P : Nat → Nat} {w m : Nat} (s : Nat) : ∀ n, (∀ i, i < n → P (5 + 5 * i + w) ≤ m) → smN P w s n ≤ 4 * m * n := by
  intro n
  induction n with
  | zero => intro _; exact Nat.zero_le _
  | succ n ih =>
    intro h
    have h1 := ih (fun i hi => h i (by omega))
    have h2 := h n (by omega)
    have h3 : dg s n ≤ 4 := by unfold dg; omega
    have h4 : dg s n * P (5 + 5 * n + w) ≤ 4 * m := Nat.mul_le_mul h3 h2
    show smN P w s n + dg s n * P (5 + 5 * n + w) ≤ _
    rw [Nat.mul_succ]
    omega
theorem sm2_le {P : Nat → Nat} (hP : Wf P) (s : Nat) : sm P 2 s ≤ 108 := by
  have := sm_leW (P := P) (w := 2) (m := 9) s (P 4) (fun i hi => by rw [show 5 + 5 * i + 2 = 7 + 5 * i by omega]; exact (hP.2.2.2.2.2 i hi).2.2.1)
  have := hP.2.2.2.2.1.2
  unfold sm
  omega
theorem sm4_le {P : Nat → Nat} (hP : Wf P) (s : Nat) : sm P 4 s ≤ 1188 := by
  have := sm_leW (P := P) (w := 4) (m := 99) s (P 4) (fun i hi => by rw [show 5 + 5 * i + 4 = 9 + 5 * i by omega]; exact (hP.2.2.2.2.2 i hi).2.2.2.2)
  have := hP.2.2.2.2.1.2
  unfold sm
  omega
theorem p4_le {k : Nat} (h : k ≤ 3) : 4 ^ k ≤ 64 := by rcases (by omega : k = 0 ∨ k = 1 ∨ k = 2 ∨ k = 3) with rfl | rfl | rfl | rfl <;> decide
section MBEH
variable {M : gM} {a o : Nat} {r ρ : Nat → Nat}
theorem m_behind (h : LayM M a r ρ o) {x d s a4 : Nat} {P : Nat → Nat} {Q : Int64 → gM → Prop} (hx : x < 8) (hP : HsM M r x P) (hw : Wf P) (hW : Wy M r P) (hd : 1 ≤ d ∧ d ≤ 6) (hs : s < 5 ^ P 4) (h4 : kd M a4 = some (true, .inr (.long, 125))) (q : Q (bh P d s (mJ M a4)) M) : F_X3_behind M a (Int32.ofNat x) (Int32.ofNat d) (Int32.ofNat s) a4 Q := by
  have hk := hw.2.2.2.2.1
  have h5 := p5_le hk.2
  have h2 := p2_le hk.2
  have hp4 := p4_le hk.2
  have key : ∀ (e c g : Nat), c + e = 2 ^ P 4 → e < g → F_X3_behind_b40 Q a (Int32.ofNat s) a4 (Int32.ofNat (P 4)) (Int64.ofNat (scl P (d - 1))) g (bhN P d s (mJ M a4) c) (Int32.ofNat c) M := by
    intro e
    induction e with
    | zero =>
      intro c g hc hg
      obtain ⟨g, rfl⟩ : ∃ z, g = z + 1 := ⟨g - 1, by omega⟩
      refine bT (by rw [sh_m _ (by omega), i32_le (by omega) (by omega)]; omega) ?_
      rw [show c = 2 ^ P 4 by omega]
      exact q
    | succ e ih =>
      intro c g hc hg
      obtain ⟨g, rfl⟩ : ∃ z, g = z + 1 := ⟨g - 1, by omega⟩
      obtain ⟨w1, w2⟩ := hW.2 c (by omega)
      obtain ⟨w3, w4⟩ := w2 s hs
      have hwt := Nat.le_trans (wtN_le hw c (P 4) (Nat.le_refl _)) hp4
      have hrf := rfN_le hw c s (P 4) (Nat.le_refl _)
      have hth := th_lt (P := P) hk.2 (show c < 8 by omega) hs
      have hI := ih (c + 1) g (by omega) (by omega)
      refine bF (by rw [sh_m _ (by omega), i32_le (by omega) (by omega)]; omega) (m_g1 h rfl (m_aJ h rfl (by omega) (by omega) ?_))
      rw [w1, i64_lit 0, i64_le (by omega) (by omega)]
      refine ⟨fun z => ?_, fun z => ?_⟩
      · have e9 : bhN P d s (mJ M a4) (c + 1) = bhN P d s (mJ M a4) c := by
          show bhN P d s (mJ M a4) c + Int64.ofNat (wtN P c (P 4)) * _ = _
          rw [show wtN P c (P 4) = 0 by omega]
          have : Int64.ofNat 0 = 0 := rfl
          rw [this]
          grind -lia
        show F_X3_behind_b40 Q a (Int32.ofNat s) a4 (Int32.ofNat (P 4)) (Int64.ofNat (scl P (d - 1))) g (bhN P d s (mJ M a4) c) (Int32.ofNat c + (1 : Int32)) M
        rw [i32_lit 1, i32_add, ← e9]
        exact hI
      · refine m_g1 h rfl (m_aJ h rfl (by omega) (by omega) (m_g2 h rfl (m_aN h rfl (by omega) (by omega) (m_bI h rfl (by omega) (by omega) (by omega) (m_g2 h rfl (m_aN h rfl (by omega) (by omega) (m_bI h rfl (by omega) (by omega) (by omega) ?_)))))))
        rw [w1, w3, w4, i64_of (by omega)]
        refine aJ_i h4 (by omega) (by omega) ?_
        show F_X3_behind_b40 Q a (Int32.ofNat s) a4 (Int32.ofNat (P 4)) (Int64.ofNat (scl P (d - 1))) g (bhN P d s (mJ M a4) c + _) (Int32.ofNat c + (1 : Int32)) M
        rw [i32_lit 1, i32_add]
        exact hI
  refine m_rc h (m_sorts h hx hP (m_rc h ?_))
  rw [i32_lit 1, i32_sub hd.1]
  have hm := sm2_le hw s
  refine m_scaleOf h hx hP hk.2 (by omega) (m_g1 h rfl (m_aI h rfl (by omega) (by omega) (m_power (b := 4) (by omega) ⟨2 ^ P 4 + 1, ?_⟩)))
  rw [(hW.1 s hs).2.2, i64_of (by omega), i64_of (by omega)]
  exact key (2 ^ P 4) 0 (2 ^ P 4 + 1) (by omega) (by omega)
theorem m_boxOf (h : LayM M a r ρ o) {x d : Nat} {P : Nat → Nat} {Q : Int64 → gM → Prop} (hx : x < 8) (hP : HsM M r x P) (hw : Wf P) (hd : 1 ≤ d ∧ d ≤ 6) (q : Q (bx P d) M) : F_X3_boxOf M a (Int32.ofNat x) (Int32.ofNat d) Q := by
  have hk := hw.2.2.2.2.1
  have hp4 := p4_le hk.2
  have hb := hw.2.1
  refine m_g2 h rfl (m_aN h rfl hx (by omega) (m_bI (i := 1) h rfl hx (by omega) (by omega) (m_rc h (m_sorts h hx hP (m_power (b := 4) (by omega) (m_rc h ?_))))))
  rw [i32_lit 1, i32_sub hd.1]
  refine m_scaleOf h hx hP hk.2 (by omega) ?_
  rw [hP 1 (by omega), i64_of (by omega), i64_of (by omega)]
  exact q
end MBEH
