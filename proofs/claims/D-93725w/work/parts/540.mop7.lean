/-! the model's operations: houses together, weeks -/
set_option maxRecDepth 100000
theorem p4_quot (d k j : Nat) : 4 ^ (d * (1 + (k + j))) / 4 ^ (d * (1 + k)) = 4 ^ (d * j) := by
  rw [show d * (1 + (k + j)) = d * (1 + k) + d * j by rw [← Nat.mul_add]; congr 1; omega, Nat.pow_add]
  exact Nat.mul_div_cancel_left _ (Nat.pow_pos (by omega))
theorem i64_div {a b : Nat} (ha : a < 9223372036854775808) (hb : b < 9223372036854775808) : Int64.ofNat a / Int64.ofNat b = Int64.ofNat (a / b) := by
  apply Int64.toInt_inj.mp
  have hd : a / b ≤ a := Nat.div_le_self a b
  rw [i64_toInt (by omega)]
  by_cases h : b = 0
  · subst h
    simp
  · rw [Int64.toInt_div_of_ne_left _ _ (by
      intro e
      have := congrArg Int64.toInt e
      rw [i64_toInt ha] at this
      have h9 : Int64.minValue.toInt = -9223372036854775808 := by decide
      omega), i64_toInt ha, i64_toInt hb]
    exact (Int.ofNat_tdiv a b).symm
section MOP7
variable {S : Nat → Nat → Prop} {M M' : gM} {a : Nat} {r ρ : Nat → Nat} {A : Ab}
/-- the guards of two houses -/
theorem m_gJ2 (R : MRel M a r ρ A) {x1 x2 : Int32} {C0 C5 C2 B : Prop} (hb : gJ2 A x1 x2 = .inl 2 → B) (h5 : gJ2 A x1 x2 = .inl 5 → C5) (h1 : ∀ h g, gJ2 A x1 x2 = .inr (h, g) → x1 = Int32.ofNat h → x2 = Int32.ofNat g → h < aH A → g < aH A → h ≠ g → aP A h 0 = aP A g 0 → aP A h 4 + aP A g 4 ≤ 3 → C2) : (∀ h, dec (aH A) x1 = some h → ∀ g, dec (aH A) x2 = some g → (h = g → B) ∧ (h ≠ g → (¬ (aP A h 0 = aP A g 0 ∧ aP A h 4 + aP A g 4 ≤ 3) → C5) ∧ ((aP A h 0 = aP A g 0 ∧ aP A h 4 + aP A g 4 ≤ 3) → C2))) ∧ (dec (aH A) x1 = none → B) ∧ (dec (aH A) x2 = none → B) := by
  refine ⟨fun h e1 g e2 => ?_, fun e => hb (by unfold gJ2; rw [e]), fun e => hb (by unfold gJ2; rw [e]; cases dec (aH A) x1 <;> rfl)⟩
  have e0 : gJ2 A x1 x2 = if h = g then .inl 2 else if aP A h 0 = aP A g 0 ∧ aP A h 4 + aP A g 4 ≤ 3 then .inr (h, g) else .inl 5 := by unfold gJ2; rw [e1, e2]
  have d1 := dec_some e1
  have d2 := dec_some e2
  refine ⟨fun c => hb (by rw [e0, if_pos c]), fun c => ⟨fun c2 => h5 (by rw [e0, if_neg c, if_neg c2]), fun c2 => h1 h g (by rw [e0, if_neg c, if_pos c2]) d1.2.1 d2.2.1 d1.1 d2.1 c c2.1 c2.2⟩⟩
theorem Ons.frb {b : Nat} (f : Ons b M M') : FrB ρ 1000 b M M' := ⟨⟨f.1.1, f.1.2.1, f.1.2.2.1⟩, fun c i _ hc => ⟨f.2 c i hc, by rw [f.1.2.2.2]⟩⟩
theorem m_join (R : MRel M a r ρ A) {x1 x2 : Int32} {Q : Int32 → gM → Prop} (q : Km (spJoin A x1 x2) a ρ M Q) : F_X3_join M a x1 x2 Q := by
  have h := R.1
  have t0 := h.1.2
  obtain ⟨k1, k2, k3, k4, k5⟩ := R.2.2.2.2.2.2.1
  have k1' : mI M a 11 = Int32.ofNat (aH A) := k1
  have k2' : aH A ≤ 6 := k2
  have G := m_gJ2 (C0 := True) (B := F_X3_join_b21 Q a M) (C5 := spJoin A x1 x2 = rj A 5) (C2 := ∃ x y, gJ2 A x1 x2 = .inr (x, y)) R (x1 := x1) (x2 := x2) (fun e => m_bad R (by unfold spJoin; rw [e]) q) (fun e => by unfold spJoin; rw [e]) (fun x y e _ _ _ _ _ _ _ => ⟨x, y, e⟩)
  refine m_rc h (m_gH R (fun x e1 => bF n10 ?_) (fun e1 => bT rfl (G.2.1 e1)))
  refine m_rc h (m_gH R (fun y e2 => bF n10 ?_) (fun e2 => bT rfl (G.2.2 e2)))
  have d1 := dec_some e1
  have d2 := dec_some e2
  obtain ⟨f7, f8, f2⟩ := R.hs d1.1
  obtain ⟨g7, g8, g2⟩ := R.hs d2.1
  have G1 := G.1 x e1 y e2
  rw [d1.2.1, d2.2.1]
  refine eqS' (by omega) (by omega) (fun c => ?_) (fun c => G1.1 c)
  refine m_rc h (m_mayJoin h (by omega) (by omega) f7 g7 f8 g8 (fun c2 => bT' n10 ?_) (fun c2 => bF' rfl (m_rc h (m_rj (n := 5) R (by omega) ((G1.2 c).1 c2) q))))
  have ej : gJ2 A x1 x2 = .inr (x, y) := by unfold gJ2; rw [e1, e2]; simp only; rw [if_neg c, if_pos c2]
  refine m_gI h ?_
  rw [k1']
  refine eqS' (b := 6) (by omega) (by omega) (fun c6 => m_gI h ?_) (fun c6 => m_rc h (m_rj (n := 6) R (by omega) (by unfold spJoin; rw [ej]; simp only; rw [if_pos c6]) q))
  rw [k1']
  have es : spJoin A x1 x2 = (Int32.ofNat (aH A), sNow A (addH (aNow A) (jn (aP A x) (aP A y)))) := by unfold spJoin; rw [ej]; simp only; rw [if_neg c6]
  rw [es] at q
  refine m_rc h (m_joinTo h (by omega) (by omega) (by omega) (by omega) (by omega) f7 g7 c2.2 (fun N f w => ?_))
  have fb : FrB ρ 1000 (r 12 + 1 + aH A) M N := f.frb
  have hN := f.lay h
  have e11 : mI N a 11 = Int32.ofNat (aH A) := (fb.e11 h (by omega)).trans k1'
  refine m_gI hN ?_
  rw [e11]
  refine m_pI hN ?_
  rw [i32_lit 1, i32_add]
  have n0 : ∀ y, y < 8 → r 12 + 1 + y ≠ a := fun y hy => ne_tg (tg2 h (k := 12) rfl hy) t0 (by omega)
  obtain ⟨R1, F1⟩ := R.slot (K := aNow A) (by omega) fb ⟨rfl, rfl⟩ e11 k2 (fun z hz => by
    have hz' : z < aH A := hz
    exact ⟨fb.hsB h (by omega) (by omega) (k3 z hz).1, (k3 z hz).2⟩)
  have g11 : FmG (fun b i => b = a ∧ i = 11) N (sI N a 11 (Int32.ofNat (aH A + 1))) := FmG.sI ⟨rfl, rfl⟩
  have k0 := g11.kp0 (a := a) (r := r) (K := aNow A) (fun i hi z => by omega) (fun i z => n0 7 (by omega) z.1) (fun z => by omega) (fun z => by omega) (fun i z => ne_tg (tg2 h (k := 7) (j := 8) rfl (by omega)) t0 (by omega) z.1) R1.2.2.2.2.2.2.1
  have R3 : MRel (sI N a 11 (Int32.ofNat (aH A + 1))) a r ρ (sNow A (addH (aNow A) (jn (aP A x) (aP A y)))) := R1.setKp (g11.mono (fun b i z => by rw [z.1, z.2]; exact Or.inl (Or.inr (Or.inl ⟨t0, Or.inl rfl⟩)))) rfl rfl ⟨mI_eq, by show aH A + 1 ≤ 6; omega, fun z hz => by
    have hz : z < aH A + 1 := hz
    show HsM _ r z (if z = aH A then jn (aP A x) (aP A y) else aP A z) ∧ Wf (if z = aH A then jn (aP A x) (aP A y) else aP A z)
    by_cases c3 : z = aH A
    · rw [if_pos c3, c3]
      exact ⟨fun i hi => (mI_ne (Or.inl (n0 _ (by omega)))).trans (w i hi), jn_wf f8 g8 c2.2⟩
    · rw [if_neg c3]
      exact ⟨fun i hi => (mI_ne (Or.inl (n0 _ (by omega)))).trans (fb.hsB h (by omega) c3 (k3 z (by show z < aH A; omega)).1 i hi), (k3 z (by show z < aH A; omega)).2⟩, k0.1, k0.2⟩
  exact q _ r ρ R3 (F1.tr (g11.fmm (fun b i z => by rw [z.1, t0]; omega)))
theorem Ons.frw {M' : gM} (f : Ons (r 12 + 1 + 6) M M') : FrW r ρ 1000 M M' := ⟨⟨f.1.1, f.1.2.1, f.1.2.2.1⟩, fun b i _ _ z => ⟨f.2 b i z, by rw [f.1.2.2.2]⟩⟩
theorem m_saved (R : MRel M a r ρ A) {x1 x2 : Int32} {Q : Int64 → gM → Prop} (q : Km (spSaved A x1 x2) a ρ M Q) : F_X3_saved M a x1 x2 Q := by
  have h := R.1
  have G := m_gJ2 (C0 := True) (B := F_X3_saved_b21 Q a M) (C5 := spSaved A x1 x2 = rjJ A 5) (C2 := True) R (x1 := x1) (x2 := x2) (fun e => m_badJ R (by unfold spSaved; rw [e]) q) (fun e => by unfold spSaved; rw [e]) (fun x y e _ _ _ _ _ _ _ => trivial)
  refine m_rc h (m_gH R (fun x e1 => bF n10 ?_) (fun e1 => bT rfl (G.2.1 e1)))
  refine m_rc h (m_gH R (fun y e2 => bF n10 ?_) (fun e2 => bT rfl (G.2.2 e2)))
  have d1 := dec_some e1
  have d2 := dec_some e2
  obtain ⟨f7, f8, f2⟩ := R.hs d1.1
  obtain ⟨g7, g8, g2⟩ := R.hs d2.1
  have G1 := G.1 x e1 y e2
  rw [d1.2.1, d2.2.1]
  refine eqS' (by omega) (by omega) (fun c => ?_) (fun c => G1.1 c)
  refine m_rc h (m_mayJoin h (by omega) (by omega) f7 g7 f8 g8 (fun c2 => bT' n10 ?_) (fun c2 => bF' rfl (m_rc h (m_rjJ (n := 5) R (by omega) ((G1.2 c).1 c2) q))))
  have ej : gJ2 A x1 x2 = .inr (x, y) := by unfold gJ2; rw [e1, e2]; simp only; rw [if_neg c, if_pos c2]
  have es : spSaved A x1 x2 = (if 0 ≤ svF (aP A x) (aP A y) then svF (aP A x) (aP A y) else 0, A) := by unfold spSaved; rw [ej]
  have hW := jn_wf f8 g8 c2.2
  have hk := f8.2.2.2.2.1
  have hk' := g8.2.2.2.2.1
  have hd := f8.1
  have hj0 : jn (aP A x) (aP A y) 0 = aP A x 0 := by unfold jn; rw [if_neg (by omega), if_pos (by omega)]
  have hj4 : jn (aP A x) (aP A y) 4 = aP A x 4 + aP A y 4 := rfl
  refine m_rc h (m_joinTo (z := 6) h (by omega) (by omega) (by omega) (by omega) (by omega) f7 g7 c2.2 (fun N f w => ?_))
  have fw : FrW r ρ 1000 M N := f.frw
  have RN := R.frw fw
  have hN := RN.1
  have f7N := (RN.hs d1.1).1
  refine m_g2 hN rfl (m_aN hN rfl (by omega) (by omega) (m_bI (i := 0) hN rfl (by omega) (by omega) (by omega) ?_))
  rw [f7N 0 (by omega)]
  refine m_rc hN (m_scaleOf (x := 6) hN (by omega) w hW.2.2.2.2.1.2 (by omega) (m_rc hN (m_wholeCost hN (by omega) f7N f8 RN.mu (fun N1 h1 => ?_))))
  have fw1 := fw.tr h1.w
  have RN1 := R.frw fw1
  have hN1 := RN1.1
  have w1 := h1.hs hN (x := 6) (by omega) w
  refine m_rc hN1 (m_scaleOf hN1 (by omega) (RN1.hs d1.1).1 hk.2 (by omega) ⟨?_, m_rc hN1 (m_wholeCost hN1 (by omega) (RN1.hs d2.1).1 g8 RN1.mu (fun N2 h2 => ?_))⟩)
  · intro z
    have hp := Nat.pow_le_pow_right (n := 4) (by omega) (show aP A x 0 * (1 + aP A x 4) ≤ 24 from Nat.le_trans (Nat.mul_le_mul hd.2 (show 1 + aP A x 4 ≤ 4 by omega)) (by omega))
    have hp0 : 0 < 4 ^ (aP A x 0 * (1 + aP A x 4)) := Nat.pow_pos (by omega)
    have p24 : (4 : Nat) ^ 24 = 281474976710656 := by decide
    have := congrArg Int64.toInt z
    rw [i64_toInt (by omega)] at this
    have z0 : (0 : Int64).toInt = 0 := by decide
    omega
  have fw2 := fw1.tr h2.w
  have RN2 := R.frw fw2
  have hN2 := RN2.1
  have w2 := h2.hs hN1 (x := 6) (by omega) w1
  refine m_rc hN2 (m_scaleOf hN2 (by omega) (RN2.hs d2.1).1 hk'.2 (by omega) ⟨?_, m_rc hN2 (m_wholeCost (x := 6) hN2 (by omega) w2 hW RN2.mu (fun N3 h3 => ?_))⟩)
  · intro z
    have hp := Nat.pow_le_pow_right (n := 4) (by omega) (show aP A x 0 * (1 + aP A y 4) ≤ 24 from Nat.le_trans (Nat.mul_le_mul hd.2 (show 1 + aP A y 4 ≤ 4 by omega)) (by omega))
    have hp0 : 0 < 4 ^ (aP A x 0 * (1 + aP A y 4)) := Nat.pow_pos (by omega)
    have p24 : (4 : Nat) ^ 24 = 281474976710656 := by decide
    have := congrArg Int64.toInt z
    rw [i64_toInt (by omega)] at this
    have z0 : (0 : Int64).toInt = 0 := by decide
    omega
  have fw3 := fw2.tr h3.w
  have ev : CT (aP A x) (fun _ => false) (aP A x 0) 0 * (Int64.ofNat (4 ^ (aP A x 0 * (1 + jn (aP A x) (aP A y) 4))) / Int64.ofNat (4 ^ (aP A x 0 * (1 + aP A x 4)))) + CT (aP A y) (fun _ => false) (aP A y 0) 0 * (Int64.ofNat (4 ^ (aP A x 0 * (1 + jn (aP A x) (aP A y) 4))) / Int64.ofNat (4 ^ (aP A x 0 * (1 + aP A y 4)))) - CT (jn (aP A x) (aP A y)) (fun _ => false) (jn (aP A x) (aP A y) 0) 0 = svF (aP A x) (aP A y) := by
    have b : ∀ k, k ≤ 4 → 4 ^ (aP A x 0 * k) < 9223372036854775808 := fun k hk => by
      have hp := Nat.pow_le_pow_right (n := 4) (by omega) (show aP A x 0 * k ≤ 24 from Nat.le_trans (Nat.mul_le_mul hd.2 hk) (by omega))
      have p24 : (4 : Nat) ^ 24 = 281474976710656 := by decide
      omega
    rw [hj0, hj4, i64_div (b _ (by omega)) (b _ (by omega)), i64_div (b _ (by omega)) (b _ (by omega)), p4_quot]
    rw [show aP A x 4 + aP A y 4 = aP A y 4 + aP A x 4 by omega, p4_quot]
    rfl
  rw [ev]
  exact ⟨fun c3 => m_end R fw3 (by rw [es, if_pos c3]) q, fun c3 => m_end R fw3 (by rw [es, if_neg c3]) q⟩
/-- the seed is set -/
theorem MRel.sd (R : MRel M a r ρ A) (v : Int32) : MRel (sI M a 13 v) a r ρ (sNow A (sSd (aNow A) v)) ∧ Fmm ρ M ρ (sI M a 13 v) := by
  have h := R.1
  have t0 := h.1.2
  have g : FmG (fun b i => b = a ∧ i = 13) M (sI M a 13 v) := FmG.sI ⟨rfl, rfl⟩
  obtain ⟨k1, k2, k3, k4, k5⟩ := R.2.2.2.2.2.2.1
  refine ⟨R.setKp (g.mono (fun b i z => by rw [z.1, z.2]; exact Or.inl (Or.inr (Or.inl ⟨t0, by omega⟩)))) rfl rfl ⟨(mI_ne (Or.inr (by omega))).trans k1, k2, fun x hx => ⟨(k3 x hx).1.s13 h (Nat.lt_of_lt_of_le hx (Nat.le_trans k2 (by omega))), (k3 x hx).2⟩, mI_eq, ?_⟩, g.fmm (fun b i z => by rw [z.1, t0]; omega)⟩
  exact g.wk (fun i h1 h2 z => by omega) (fun i z => ne_tg (tg2 h (k := 12) (j := 7) rfl (by omega)) t0 (by omega) z.1) (fun z => by omega) (fun z => by omega) (fun i z => ne_tg (tg2 h (k := 7) (j := 8) rfl (by omega)) t0 (by omega) z.1) k5
theorem m_seed (R : MRel M a r ρ A) {x1 : Int32} {Q : Int32 → gM → Prop} (q : Km (spSeed A x1) a ρ M Q) : F_X3_seed M a x1 Q := by
  have h := R.1
  refine m_gI h (m_pI h ?_)
  rw [R.2.2.2.2.2.2.1.2.2.2.1]
  exact q _ r ρ (R.sd x1).1 (R.sd x1).2
theorem m_week (R : MRel M a r ρ A) {x1 : Int32} {Q : Int32 → gM → Prop} (q : Km (spWeek A x1) a ρ M Q) : F_X3_week M a x1 Q := by
  have h := R.1
  have k5 := R.2.2.2.2.2.2.1.2.2.2.2
  refine m_inD (n := 5) (by omega) (fun k e1 => bT' n10 (m_gI h ?_)) (fun e1 => bF' rfl (m_bad R (by unfold spWeek; rw [e1]) q))
  have d1 := dec_some e1
  cases ew : kWk (aNow A) with
  | none =>
    rw [ew] at k5
    have k5 : mI M a 14 = 0 := k5
    rw [k5]
    exact bF' rfl (m_rc h (m_rj (n := 5) R (by omega) (by unfold spWeek; rw [e1]; simp only; rw [ew]) q))
  | some w =>
    rw [ew] at k5
    obtain ⟨a1, a2, a3, a4, a5, a6, a7, a8, a9⟩ := k5
    have es : spWeek A x1 = (weekV w k, A) := by unfold spWeek; rw [e1]; simp only; rw [ew]
    rw [a1]
    refine bT' (by decide) ?_
    rw [d1.2.1, i32_toInt (by omega), i32_lit 0, i32_lit 1, i32_lit 2, i32_lit 3, i32_lit 4, i32_eq (by omega) (by omega), i32_eq (by omega) (by omega), i32_eq (by omega) (by omega), i32_eq (by omega) (by omega), i32_eq (by omega) (by omega)]
    rcases (by omega : k = 0 ∨ k = 1 ∨ k = 2 ∨ k = 3 ∨ k = 4 ∨ k = 5) with rfl | rfl | rfl | rfl | rfl | rfl
    · exact ⟨fun z => by omega, fun _ => m_gI h (by rw [a4.1]; exact m_end R FrW.rf es q), fun z => by omega, fun z => by omega, fun z => by omega, fun z => by omega⟩
    · exact ⟨fun z => by omega, fun z => by omega, fun _ => m_gI h (by rw [a5.1]; exact m_end R FrW.rf es q), fun z => by omega, fun z => by omega, fun z => by omega⟩
    · exact ⟨fun z => by omega, fun z => by omega, fun z => by omega, fun _ => m_gI h (by rw [a6]; exact m_end R FrW.rf es q), fun z => by omega, fun z => by omega⟩
    · exact ⟨fun z => by omega, fun z => by omega, fun z => by omega, fun z => by omega, fun _ => m_gI h (by rw [a7]; exact m_end R FrW.rf es q), fun z => by omega⟩
    · exact ⟨fun z => by omega, fun z => by omega, fun z => by omega, fun z => by omega, fun z => by omega, fun _ => m_gI h (by rw [a8]; exact m_end R FrW.rf es q)⟩
    · exact ⟨fun _ => m_gI h (by rw [a9]; exact m_end R FrW.rf es q), fun z => by omega, fun z => by omega, fun z => by omega, fun z => by omega, fun z => by omega⟩
theorem m_status (R : MRel M a r ρ A) {x1 : Int32} {Q : Int32 → gM → Prop} (q : Km (spStatus A x1) a ρ M Q) : F_X3_status M a x1 Q := by
  have h := R.1
  unfold F_X3_status
  cases e1 : dec 4 x1 with
  | some k =>
    have d1 := dec_some e1
    have es : spStatus A x1 = (statV A k, A) := by unfold spStatus; rw [d1.2.1, dec_of (by omega) (by omega)]
    rw [d1.2.1, i32_toInt (by omega), i32_lit 0, i32_lit 1, i32_lit 2, i32_lit 3, i32_eq (by omega) (by omega), i32_eq (by omega) (by omega), i32_eq (by omega) (by omega), i32_eq (by omega) (by omega)]
    rcases (by omega : k = 0 ∨ k = 1 ∨ k = 2 ∨ k = 3) with rfl | rfl | rfl | rfl
    · exact ⟨fun z => by omega, fun _ => m_gI h (by rw [R.2.2.2.2.2.2.1.1]; exact m_end R FrW.rf es q), fun z => by omega, fun z => by omega, fun z => by omega⟩
    · exact ⟨fun z => by omega, fun z => by omega, fun _ => m_gI h (by rw [R.2.2.2.1.1]; exact m_end R FrW.rf es q), fun z => by omega, fun z => by omega⟩
    · exact ⟨fun z => by omega, fun z => by omega, fun z => by omega, fun _ => m_gI h (by rw [R.2.2.2.2.2.2.1.2.2.2.1]; exact m_end R FrW.rf es q), fun z => by omega⟩
    · refine ⟨fun z => by omega, fun z => by omega, fun z => by omega, fun z => by omega, fun _ => ?_⟩
      refine loopC (fun g v N => F_X3_status_b51 Q a g v.1 v.2 N) (fun s => (Int32.ofNat (cntN A s), Int32.ofNat s)) M 8 (fun s hs g k => ?_) (fun g => ?_)
      · show F_X3_status_b51 Q a (g + 1) (Int32.ofNat (cntN A s)) (Int32.ofNat s) M
        have hsh := R.2.2.1 s hs
        refine leF (a := 8) hs (by omega) (m_g1 h rfl (m_aI h rfl hs (by omega) ?_))
        have go : ∀ y, y = (match aSh A s with | none => 0 | some _ => 1) → F_X3_status_b72 Q (F_X3_status_b51 Q a g) a (Int32.ofNat s) (Int32.ofNat (cntN A s)) (Int32.ofNat y) M := by
          intro y hy
          unfold F_X3_status_b72
          rw [i32_lit 1, i32_add, i32_add, hy]
          exact k
        cases ev : aSh A s with
        | none =>
          rw [ev] at hsh go
          have hsh : mI M (r 0) s = 0 := hsh
          rw [hsh]
          exact bT rfl (go 0 rfl)
        | some w =>
          rw [ev] at hsh go
          have hsh : mI M (r 0) s = 1 ∨ mI M (r 0) s = 2 := by
            cases w with
            | inl w => exact Or.inl hsh.1
            | inr w => exact Or.inr hsh.1
          rcases hsh with hsh | hsh
          · rw [hsh]; exact bF (by decide) (go 1 rfl)
          · rw [hsh]; exact bF (by decide) (go 1 rfl)
      · exact leT (a := 8) (Nat.le_refl _) (by omega) (m_end R FrW.rf es q)
  | none =>
    have ne : ∀ k, k < 4 → x1 ≠ Int32.ofNat k := fun k hk => dec_none e1 hk (by omega)
    refine ⟨fun _ => ?_, fun z => absurd z (ne 0 (by omega)), fun z => absurd z (ne 1 (by omega)), fun z => absurd z (ne 2 (by omega)), fun z => absurd z (ne 3 (by omega))⟩
    refine m_in (l := 12) (n := 16) (by omega) (by omega) (fun s h1 h2 e => bF n10 ?_) (fun hno => bT rfl (m_end R FrW.rf ?_ q))
    · have es : spStatus A x1 = (statV A s, A) := by unfold spStatus; rw [e, dec_of (by omega) (by omega)]
      have ev : statV A s = aRf A (s - 10) := by
        rcases (by omega : s = 12 ∨ s = 13 ∨ s = 14 ∨ s = 15 ∨ s = 16) with rfl | rfl | rfl | rfl | rfl <;> rfl
      rw [e, i32_lit 10, i32_sub (by omega)]
      refine m_g1 h rfl (m_aI h rfl (by omega) (by omega) ?_)
      rw [R.2.2.2.2.1 (s - 10) (by omega) (by omega)]
      exact m_end R FrW.rf (by rw [es, ev]) q
    · unfold spStatus
      cases e2 : dec 17 x1 with
      | none => rfl
      | some k =>
        have d2 := dec_some e2
        have h4 : ¬ k < 4 := fun c => ne k c d2.2.1
        have h12 : ¬ (12 ≤ k) := fun c => hno k c (by omega) d2.2.1
        have ev : statV A k = -1 := by
          rcases (by omega : k = 4 ∨ k = 5 ∨ k = 6 ∨ k = 7 ∨ k = 8 ∨ k = 9 ∨ k = 10 ∨ k = 11) with rfl | rfl | rfl | rfl | rfl | rfl | rfl | rfl <;> rfl
        simp only [ev]
end MOP7
