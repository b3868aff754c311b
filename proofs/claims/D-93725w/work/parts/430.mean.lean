/-! means by a rule -/
set_option maxRecDepth 100000
/-- what a state counts for: boxes (none), or parcels of a sort -/
noncomputable def vlF (P : Nat → Nat) (u : Ru) (so : Option Nat) (d s : Nat) : Nat := match so with
  | none => if ldF P u d s = 0 then 0 else 4 - P 3
  | some i => P 3 * dg s i + (4 - P 3) * dg (s - ldF P u d s) i
noncomputable def mvS (P : Nat → Nat) (u : Ru) (so : Option Nat) (d : Nat) : Nat → Int64
  | 0 => 0
  | s + 1 => mvS P u so d s + Int64.ofNat (chN P u (P 0 - d) s) * Int64.ofNat (vlF P u so d s)
noncomputable def mvT (P : Nat → Nat) (u : Ru) (so : Option Nat) : Nat → Int64
  | 0 => 0
  | j + 1 => mvT P u so j + mvS P u so (P 0 - j) (5 ^ P 4) * Int64.ofNat (4 ^ P 4) * Int64.ofNat (scl P (P 0 - j - 1))
theorem mvS_s (P : Nat → Nat) (u : Ru) (so : Option Nat) (d s : Nat) : mvS P u so d (s + 1) = mvS P u so d s + Int64.ofNat (chN P u (P 0 - d) s) * Int64.ofNat (vlF P u so d s) := rfl
theorem mvT_s (P : Nat → Nat) (u : Ru) (so : Option Nat) (j : Nat) : mvT P u so (j + 1) = mvT P u so j + mvS P u so (P 0 - j) (5 ^ P 4) * Int64.ofNat (4 ^ P 4) * Int64.ofNat (scl P (P 0 - j - 1)) := rfl
theorem vl_none (P : Nat → Nat) (u : Ru) (d s : Nat) : vlF P u none d s = if ldF P u d s = 0 then 0 else 4 - P 3 := rfl
theorem vl_some (P : Nat → Nat) (u : Ru) (i d s : Nat) : vlF P u (some i) d s = P 3 * dg s i + (4 - P 3) * dg (s - ldF P u d s) i := rfl
theorem dg_le (s i : Nat) : dg s i ≤ 4 := by unfold dg; omega
theorem vl_le (P : Nat → Nat) (u : Ru) (so : Option Nat) (d s : Nat) (h : P 3 ≤ 3) : vlF P u so d s ≤ 100 := by
  unfold vlF
  cases so with
  | none => simp only; split <;> omega
  | some i =>
    simp only
    have h1 : P 3 * dg s i ≤ 3 * 4 := Nat.mul_le_mul h (dg_le _ _)
    have h2 : (4 - P 3) * dg (s - ldF P u d s) i ≤ 4 * 4 := Nat.mul_le_mul (by omega) (dg_le _ _)
    omega
section MMEAN
variable {M : gM} {a o : Nat} {r ρ P : Nat → Nat}
theorem m_meanOf (h : LayM M a r ρ o) {x n : Nat} {u : Ru} {so : Option Nat} {Q : Int64 → gM → Prop} (hx : x < 8) (hP : HsM M r x P) (hw : Wf P) (hn : n < 10) (hu : RuM M r n u) (hwu : WfR u) (hmu : mI M a 39 = (-1 : Int32)) (hso : ∀ i, so = some i → i < 3) (q : ∀ M', Fr ρ o M M' → Q (mvT P u so (P 0)) M') : F_X3_meanOf M a (Int32.ofNat x) (oI so) (Int32.ofNat n) Q := by
  have hk := hw.2.2.2.2.1
  have hd0 := hw.1
  have h5 := p5_le hk.2
  have hf3 := hw.2.2.2.1
  have hp4 := p4_le hk.2
  refine m_rc h (m_findChances h hx hP hw hn hu hwu hmu (fun N f wy wb ch => ?_))
  have hN := f.lay h
  have hPN := f.hs h hx hP
  refine m_g2 hN rfl (m_aN hN rfl hx (by omega) (m_bI (i := 3) hN rfl hx (by omega) (by omega) (m_g2 hN rfl (m_aN hN rfl hx (by omega) (m_bI (i := 0) hN rfl hx (by omega) (by omega) ?_)))))
  rw [hPN 3 (by omega), hPN 0 (by omega)]
  refine loopC (fun g s N => F_X3_meanOf_b29 Q a (Int32.ofNat x) (oI so) (Int32.ofNat n) (Int32.ofNat (P 3)) g s.1 s.2 N) (fun j => (mvT P u so j, Int32.ofNat (P 0 - j))) N (P 0) (fun j hj g k => ?_) (fun g => ?_)
  · show F_X3_meanOf_b29 Q a (Int32.ofNat x) (oI so) (Int32.ofNat n) (Int32.ofNat (P 3)) (g + 1) (mvT P u so j) (Int32.ofNat (P 0 - j)) N
    refine leF (b := 0) (by omega) (by omega) ?_
    refine loopC (fun g' s N => F_X3_meanOf_b40 Q (F_X3_meanOf_b29 Q a (Int32.ofNat x) (oI so) (Int32.ofNat n) (Int32.ofNat (P 3)) g) a (Int32.ofNat x) (oI so) (Int32.ofNat n) (Int32.ofNat (P 3)) (mvT P u so j) (Int32.ofNat (P 0 - j)) g' s.1 s.2 N) (fun s => (mvS P u so (P 0 - j) s, Int32.ofNat s)) N (5 ^ P 4) (fun s hs g' k' => ?_) (fun g' => ?_)
    · show F_X3_meanOf_b40 Q (F_X3_meanOf_b29 Q a (Int32.ofNat x) (oI so) (Int32.ofNat n) (Int32.ofNat (P 3)) g) a (Int32.ofNat x) (oI so) (Int32.ofNat n) (Int32.ofNat (P 3)) (mvT P u so j) (Int32.ofNat (P 0 - j)) (g' + 1) (mvS P u so (P 0 - j) s) (Int32.ofNat s) N
      have hch := chN_lt hw (u := u) (j := P 0 - (P 0 - j)) (t := s) (by omega) hs
      have hle := ldF_le hw (u := u) (d := P 0 - j) (s := s) (by omega)
      have hvl := vl_le P u so (P 0 - j) s hf3
      have p24 : (4 : Nat) ^ 24 = 281474976710656 := by decide
      have fin : ∀ z : Int64, z = mvS P u so (P 0 - j) (s + 1) → F_X3_meanOf_b144 Q (F_X3_meanOf_b29 Q a (Int32.ofNat x) (oI so) (Int32.ofNat n) (Int32.ofNat (P 3)) g) (F_X3_meanOf_b40 Q (F_X3_meanOf_b29 Q a (Int32.ofNat x) (oI so) (Int32.ofNat n) (Int32.ofNat (P 3)) g) a (Int32.ofNat x) (oI so) (Int32.ofNat n) (Int32.ofNat (P 3)) (mvT P u so j) (Int32.ofNat (P 0 - j)) g') a (Int32.ofNat x) (oI so) (Int32.ofNat n) (Int32.ofNat (P 3)) (mvT P u so j) (Int32.ofNat (P 0 - j)) z (Int32.ofNat s) N := by
        intro z hz
        unfold F_X3_meanOf_b144
        rw [i32_lit 1, i32_add, hz]
        exact k'
      refine m_rc hN (m_states hN hx hPN hk.2 (leF hs (by omega) (m_g2 hN rfl (m_aN hN rfl (by omega) (by omega) (m_bJ hN rfl (by omega) (by omega) (by omega) ?_)))))
      rw [ch (P 0 - j) (by omega) s (by omega), i64_lit 0, i64_le (by omega) (by omega)]
      refine ⟨fun z => fin _ ?_, fun z => ?_⟩
      · rw [mvS_s, show chN P u (P 0 - (P 0 - j)) s = 0 by omega, i64_0mul, i64_0add]
      · refine m_rc hN (m_loadBy hN hx hPN hw hn (f.ru h hn hu) hwu wb (by omega) hs (fun l hl => ?_))
        have hl := ldB_F hl
        cases so with
        | none =>
          refine bF' rfl ?_
          rw [i32_lit 0, i32_eq (by omega) (by omega), i32_lit 4, i32_sub (by omega), i64_of (by omega)]
          refine ⟨fun y => fin _ ?_, fun y => fin _ ?_⟩
          · rw [mvS_s, vl_none, if_pos (by omega), i64_mul, Nat.mul_zero]
          · rw [mvS_s, vl_none, if_neg (by omega)]
        | some i =>
          have hi := hso i rfl
          refine bT' (oI_ne (by omega)) (m_ofState (by omega) hi ?_)
          rw [i32_sub (by omega)]
          refine m_ofState (by omega) hi ?_
          rw [i32_lit 4, i32_sub (by omega), i32_mul, i32_mul, i32_add, i64_of (by rw [hl, ← vl_some]; exact Nat.lt_of_le_of_lt hvl (by omega))]
          refine fin _ ?_
          rw [hl, mvS_s, vl_some]
    · show F_X3_meanOf_b40 Q (F_X3_meanOf_b29 Q a (Int32.ofNat x) (oI so) (Int32.ofNat n) (Int32.ofNat (P 3)) g) a (Int32.ofNat x) (oI so) (Int32.ofNat n) (Int32.ofNat (P 3)) (mvT P u so j) (Int32.ofNat (P 0 - j)) (g' + 1) (mvS P u so (P 0 - j) (5 ^ P 4)) (Int32.ofNat (5 ^ P 4)) N
      refine m_rc hN (m_states hN hx hPN hk.2 (leT (Nat.le_refl _) (by omega) (m_rc hN (m_sorts hN hx hPN (m_power (b := 4) (by omega) (m_rc hN ?_))))))
      rw [i32_lit 1, i32_sub (by omega)]
      refine m_scaleOf hN hx hPN hk.2 (by omega) ?_
      rw [i64_of (by omega), show Int32.ofNat (P 0 - j) + -Int32.ofNat 1 = Int32.ofNat (P 0 - (j + 1)) by rw [show P 0 - j = P 0 - (j + 1) + 1 by omega]; exact i32_dec _]
      have k2 : F_X3_meanOf_b29 Q a (Int32.ofNat x) (oI so) (Int32.ofNat n) (Int32.ofNat (P 3)) g (mvT P u so (j + 1)) (Int32.ofNat (P 0 - (j + 1))) N := k
      rw [mvT_s] at k2
      exact k2
  · show F_X3_meanOf_b29 Q a (Int32.ofNat x) (oI so) (Int32.ofNat n) (Int32.ofNat (P 3)) (g + 1) (mvT P u so (P 0)) (Int32.ofNat (P 0 - P 0)) N
    exact leT (b := 0) (by omega) (by omega) (q N f)
end MMEAN
