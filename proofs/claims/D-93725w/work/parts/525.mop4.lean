/-! the model's operations: houses -/
set_option maxRecDepth 100000
theorem Wf.p {P : Nat → Nat} (h : Wf P) : WfP P := ⟨h.1, h.2.1, h.2.2.1, h.2.2.2.1, h.2.2.2.2.1.2, h.2.2.2.2.2⟩
theorem WfP.w {P : Nat → Nat} (h : WfP P) (h4 : 1 ≤ P 4) : Wf P := ⟨h.1, h.2.1, h.2.2.1, h.2.2.2.1, ⟨h4, h.2.2.2.2.1⟩, h.2.2.2.2.2⟩
theorem Wf.alt {P : Nat → Nat} {w v : Nat} {x : Int32} (h : Wf P) (hw : w < 3) (e : alOf w x = some v) : Wf (upP P (1 + w) v) ∧ x = Int32.ofNat v := by
  rcases (by omega : w = 0 ∨ w = 1 ∨ w = 2) with rfl | rfl | rfl
  · have d := dec_some (n := 100) e
    exact ⟨(h.p.up (by omega) (fun z => by omega) (fun _ => by omega) (fun z => by omega) (fun z => by omega)).w h.2.2.2.2.1.1, d.2.1⟩
  · have e : (match dec 41 x with | some a => if 1 ≤ a then some a else none | none => none) = some v := e
    cases e2 : dec 41 x with
    | none => rw [e2] at e; cases e
    | some s =>
      rw [e2] at e
      simp only at e
      split at e
      · cases e
        have d := dec_some e2
        exact ⟨(h.p.up (by omega) (fun z => by omega) (fun z => by omega) (fun _ => by omega) (fun z => by omega)).w h.2.2.2.2.1.1, d.2.1⟩
      · cases e
  · have d := dec_some (n := 4) e
    exact ⟨(h.p.up (by omega) (fun z => by omega) (fun z => by omega) (fun z => by omega) (fun _ => by omega)).w h.2.2.2.2.1.1, d.2.1⟩
theorem Wf.chg {P : Nat → Nat} {i w v : Nat} (h : Wf P) (hi : i < P 4) (hw : w < 4) (hv : v < if w = 0 then 5 else if w = 1 then 10 else 100) : Wf (upP P (6 + 5 * i + w) v) := by
  obtain ⟨a0, a1, a2, a3, a4, a5⟩ := h
  have lo : ∀ j, j < 6 → upP P (6 + 5 * i + w) v j = P j := fun j hj => up_ne (by omega)
  unfold Wf
  rw [lo 0 (by omega), lo 1 (by omega), lo 2 (by omega), lo 3 (by omega), lo 4 (by omega)]
  refine ⟨a0, a1, a2, a3, a4, fun k hk => ?_⟩
  obtain ⟨b0, b1, b2, b3, b4⟩ := a5 k hk
  have e0 : upP P (6 + 5 * i + w) v (5 + 5 * k) = P (5 + 5 * k) := up_ne (by omega)
  rw [e0]
  by_cases c : k = i
  · subst c
    rcases (by omega : w = 0 ∨ w = 1 ∨ w = 2 ∨ w = 3) with rfl | rfl | rfl | rfl
    · rw [if_pos rfl] at hv
      refine ⟨b0, ?_, ?_, ?_, ?_⟩
      · rw [show 6 + 5 * k + 0 = 6 + 5 * k by omega, up_eq]; omega
      · rw [up_ne (by omega)]; exact b2
      · rw [up_ne (by omega)]; exact b3
      · rw [up_ne (by omega)]; exact b4
    · rw [if_neg (by omega), if_pos rfl] at hv
      refine ⟨b0, ?_, ?_, ?_, ?_⟩
      · rw [up_ne (by omega)]; exact b1
      · rw [show 6 + 5 * k + 1 = 7 + 5 * k by omega, up_eq]; omega
      · rw [up_ne (by omega)]; exact b3
      · rw [up_ne (by omega)]; exact b4
    · rw [if_neg (by omega), if_neg (by omega)] at hv
      refine ⟨b0, ?_, ?_, ?_, ?_⟩
      · rw [up_ne (by omega)]; exact b1
      · rw [up_ne (by omega)]; exact b2
      · rw [show 6 + 5 * k + 2 = 8 + 5 * k by omega, up_eq]; omega
      · rw [up_ne (by omega)]; exact b4
    · rw [if_neg (by omega), if_neg (by omega)] at hv
      refine ⟨b0, ?_, ?_, ?_, ?_⟩
      · rw [up_ne (by omega)]; exact b1
      · rw [up_ne (by omega)]; exact b2
      · rw [up_ne (by omega)]; exact b3
      · rw [show 6 + 5 * k + 3 = 9 + 5 * k by omega, up_eq]; omega
  · refine ⟨b0, ?_, ?_, ?_, ?_⟩
    · rw [up_ne (by omega)]; exact b1
    · rw [up_ne (by omega)]; exact b2
    · rw [up_ne (by omega)]; exact b3
    · rw [up_ne (by omega)]; exact b4
section MOP4
variable {S : Nat → Nat → Prop} {M M' : gM} {a : Nat} {r ρ : Nat → Nat} {A : Ab}
/-- all of what is kept, but for the houses -/
theorem FmG.kp0 (f : FmG S M M') {K : Kp} (ha : ∀ i, (13 ≤ i ∧ i ≤ 20) → ¬ S a i) (h12 : ∀ i, ¬ S (r 12 + 1 + 7) i) (h5 : ¬ S (r 5) 8) (h6 : ¬ S (r 6) 8) (h7 : ∀ i, ¬ S (r 7 + 1 + 8) i) (h : KpM M a r K) : mI M' a 13 = kSd K ∧ WkM M' a r (kWk K) := by
  obtain ⟨a1, a2, a3, a4, a5⟩ := h
  exact ⟨(f.2 _ _ (ha 13 (by omega))).1.trans a4, f.wk (fun i h1 h2 => ha i (by omega)) h12 h5 h6 h7 a5⟩
/-- one house's row, and scratch, have changed -/
theorem MRel.slot (R : MRel M a r ρ A) {x : Nat} (hx : x < 6) (f : FrB ρ 1000 (r 12 + 1 + x) M M') {K : Kp} (eK : kSd K = kSd (aNow A) ∧ kWk K = kWk (aNow A)) (h11 : mI M' a 11 = Int32.ofNat (kH K)) (h6 : kH K ≤ 6) (hH : ∀ h, h < kH K → HsM M' r h (kP K h) ∧ Wf (kP K h)) : MRel M' a r ρ (sNow A K) ∧ Fmm ρ M ρ M' := by
  have h := R.1
  have t0 := h.1.2
  have tn : ∀ j, j < 8 → ρ (r 12 + 1 + j) = 1012 := fun j hj => tg2 h (k := 12) rfl hj
  have g : FmG (fun c i => Sc ρ 1000 c i ∨ c = r 12 + 1 + x) M M' := ⟨f.1, fun c i z => f.2 c i (fun y => z (Or.inl y)) (fun y => z (Or.inr y))⟩
  have nr : ∀ y i t, ρ y = 1000 + t → t < 28 → t ≠ 4 → t ≠ 12 → ¬ (Sc ρ 1000 y i ∨ y = r 12 + 1 + x) := fun y i t ht h1 h2 h3 => by
    rintro ((⟨k, hk, e⟩ | ⟨e, z⟩) | e)
    · omega
    · omega
    · have := tn x (by omega); rw [← e] at this; omega
  have k0 := g.kp0 (a := a) (r := r) (K := aNow A) (fun i hi => by
    rintro ((⟨k, hk, e⟩ | ⟨e, z⟩) | e)
    · omega
    · omega
    · have := tn x (by omega); rw [← e] at this; omega) (fun i => by
    have := tn 7 (by omega)
    rintro ((⟨k, hk, e⟩ | ⟨e, z⟩) | e)
    · omega
    · omega
    · omega) (nr _ 8 5 (tg1 h (k := 5) rfl) (by omega) (by omega) (by omega)) (nr _ 8 6 (tg1 h (k := 6) rfl) (by omega) (by omega) (by omega)) (fun i => nr _ i 7 (tg2 h (k := 7) rfl (by omega)) (by omega) (by omega) (by omega)) R.2.2.2.2.2.2.1
  refine ⟨R.setKp (g.mono (fun b i z => ?_)) rfl rfl ⟨h11, h6, hH, ?_, ?_⟩, g.fmm (fun b i z => ?_)⟩
  · rcases z with z | z
    · exact Or.inl (Or.inl z)
    · rw [z]; exact Or.inl (Or.inr (Or.inr (tn x (by omega))))
  · show mI M' a 13 = kSd K
    rw [eK.1]; exact k0.1
  · show WkM M' a r (kWk K)
    rw [eK.2]; exact k0.2
  · rcases z with (⟨k, hk, e⟩ | ⟨e, z⟩) | z
    · omega
    · omega
    · rw [z, tn x (by omega)]; omega
theorem FrB.e11 (h : LayM M a r ρ 1000) {x : Nat} (hx : x < 8) (f : FrB ρ 1000 (r 12 + 1 + x) M M') : mI M' a 11 = mI M a 11 := (f.2 a 11 (by
  have := h.1.2
  rintro (⟨k, hk, e⟩ | ⟨e, z⟩) <;> omega) (ne_tg h.1.2 (tg2 h (k := 12) rfl hx) (by omega))).1
theorem sc_no12 (h : LayM M a r ρ 1000) {y i : Nat} (hy : y < 8) : ¬ Sc ρ 1000 (r 12 + 1 + y) i := by
  have := tg2 h (k := 12) rfl hy
  rintro (⟨k, hk, e⟩ | ⟨e, z⟩) <;> omega
theorem FrB.hsB (h : LayM M a r ρ 1000) {x y : Nat} {P : Nat → Nat} (hy : y < 8) (hxy : y ≠ x) (f : FrB ρ 1000 (r 12 + 1 + x) M M') (hP : HsM M r y P) : HsM M' r y P := fun i hi => (f.2 _ _ (sc_no12 h hy) (by omega)).1.trans (hP i hi)
theorem m_house (R : MRel M a r ρ A) {Q : Int32 → gM → Prop} (q : Km (spHouse A) a ρ M Q) : F_X3_house M a Q := by
  have h := R.1
  have t0 := h.1.2
  obtain ⟨k1, k2, k3, k4, k5⟩ := R.2.2.2.2.2.2.1
  have k2' : aH A ≤ 6 := k2
  have k1' : mI M a 11 = Int32.ofNat (aH A) := k1
  refine m_gI h ?_
  rw [k1']
  refine eqS' (b := 6) (by omega) (by omega) (fun c => m_g2 h rfl (m_gI h ?_)) (fun c => m_rc h (m_rj (n := 6) R (by omega) (by unfold spHouse; rw [if_pos c]) q))
  rw [k1']
  have hH : aH A < 6 := by omega
  have tb : ρ (r 12 + 1 + aH A) = 1012 := tg2 h (k := 12) rfl (by omega)
  have kb : kd M (r 12 + 1 + aH A) = some (true, .inr (.int, 20)) := ((h.2.2 12 _ _ _ rfl).2 _ (by omega)).2.1
  have ro := rdF_ok (T := aTp A) (n := aTz A)
  refine m_aN h rfl (by omega) (by omega) (m_rc h (m_read h (by omega) R.2.1 R.2.2.2.1 tb kb (fun f ef N fN e27 => ?_) (fun P eP N fN w => ?_)))
  · have es : spHouse A = ((-20 : Int32) - Int32.ofNat f, aNo (sTp A (aTp A) 0) 2) := by unfold spHouse; rw [if_neg c, ef]
    rw [es] at q
    obtain ⟨R1, F1⟩ := R.slot (K := aNow A) hH fN ⟨rfl, rfl⟩ ((fN.e11 h (by omega)).trans k1) k2 (fun x hx => by
      have hx' : x < aH A := hx
      exact ⟨fN.hsB h (by omega) (by omega) (k3 x hx).1, (k3 x hx).2⟩)
    have hN := R1.1
    refine m_pI hN (bF' rfl ?_)
    have f9 : FmG (STp ρ) N (sI N a 9 (0 : Int32)) := FmG.sI (Or.inr ⟨t0, rfl⟩)
    have R2 : MRel (sI N a 9 (0 : Int32)) a r ρ (sTp A (aTp A) 0) := R1.setTp f9 rfl rfl rfl ⟨mI_eq, by show 0 ≤ 160; omega, fun i hi => absurd hi (Nat.not_lt_zero _)⟩
    have F2 : Fmm ρ N ρ (sI N a 9 (0 : Int32)) := f9.fmm (fun b i z => by rcases z with z | ⟨z, -⟩ <;> omega)
    refine m_rc R2.1 (m_refuse (n := 2) R2.1 (by decide) (by omega) (m_gI (R2.no (by omega)).1 ?_))
    have e : mI (sI (sI N a 9 (0 : Int32)) (r 10) 2 (mI (sI N a 9 (0 : Int32)) (r 10) 2 + 1)) a 27 = Int32.ofNat f := (mI_ne (Or.inl (ne_tg t0 (tg1 h (k := 10) rfl) (by omega)))).trans ((mI_ne (Or.inr (by omega))).trans e27)
    rw [e]
    exact q _ r ρ (R2.no (by omega)) ((F1.tr F2).tr R2.noF)
  · have es : spHouse A = (Int32.ofNat (aH A), sNow (sTp A (aTp A) 0) (addH (aNow A) P)) := by unfold spHouse; rw [if_neg c, eP]
    rw [es] at q
    obtain ⟨R1, F1⟩ := R.slot (K := aNow A) hH fN ⟨rfl, rfl⟩ ((fN.e11 h (by omega)).trans k1) k2 (fun x hx => by
      have hx' : x < aH A := hx
      exact ⟨fN.hsB h (by omega) (by omega) (k3 x hx).1, (k3 x hx).2⟩)
    have hN := R1.1
    have n0 : ∀ y, y < 8 → r 12 + 1 + y ≠ a := fun y hy => ne_tg (tg2 h (k := 12) rfl hy) t0 (by omega)
    have f9 : FmG (STp ρ) N (sI N a 9 (0 : Int32)) := FmG.sI (Or.inr ⟨t0, rfl⟩)
    have R2 : MRel (sI N a 9 (0 : Int32)) a r ρ (sTp A (aTp A) 0) := R1.setTp f9 rfl rfl rfl ⟨mI_eq, by show 0 ≤ 160; omega, fun i hi => absurd hi (Nat.not_lt_zero _)⟩
    have F2 : Fmm ρ N ρ (sI N a 9 (0 : Int32)) := f9.fmm (fun b i z => by rcases z with z | ⟨z, -⟩ <;> omega)
    have e11 : mI (sI N a 9 (0 : Int32)) a 11 = Int32.ofNat (aH A) := (mI_ne (Or.inr (by omega))).trans ((fN.e11 h (by omega)).trans k1')
    refine m_pI hN (bT' n10 (m_gI R2.1 ?_))
    rw [e11]
    refine m_pI R2.1 ?_
    rw [i32_lit 1, i32_add]
    have g11 : FmG (fun b i => b = a ∧ i = 11) (sI N a 9 (0 : Int32)) (sI (sI N a 9 (0 : Int32)) a 11 (Int32.ofNat (aH A + 1))) := FmG.sI ⟨rfl, rfl⟩
    have k0 := g11.kp0 (a := a) (r := r) (K := aNow A) (fun i hi z => by omega) (fun i z => n0 7 (by omega) z.1) (fun z => by omega) (fun z => by omega) (fun i z => ne_tg (tg2 h (k := 7) (j := 8) rfl (by omega)) t0 (by omega) z.1) R2.2.2.2.2.2.2.1
    have R3 : MRel (sI (sI N a 9 (0 : Int32)) a 11 (Int32.ofNat (aH A + 1))) a r ρ (sNow (sTp A (aTp A) 0) (addH (aNow A) P)) := R2.setKp (g11.mono (fun b i z => by rw [z.1, z.2]; exact Or.inl (Or.inr (Or.inl ⟨t0, Or.inl rfl⟩)))) rfl rfl ⟨mI_eq, by show aH A + 1 ≤ 6; omega, fun x hx => by
      have hx : x < aH A + 1 := hx
      show HsM _ r x (if x = aH A then P else aP A x) ∧ Wf (if x = aH A then P else aP A x)
      by_cases c2 : x = aH A
      · rw [if_pos c2, c2]
        exact ⟨fun i hi => (mI_ne (Or.inl (n0 _ (by omega)))).trans ((mI_ne (Or.inl (n0 _ (by omega)))).trans (w i hi)), ro.2 P eP⟩
      · rw [if_neg c2]
        exact ⟨fun i hi => (mI_ne (Or.inl (n0 _ (by omega)))).trans ((mI_ne (Or.inl (n0 _ (by omega)))).trans (fN.hsB h (by omega) c2 (k3 x (by show x < aH A; omega)).1 i hi)), (k3 x (by show x < aH A; omega)).2⟩, k0.1, k0.2⟩
    exact q _ r ρ R3 ((F1.tr F2).tr (g11.fmm (fun b i z => by rw [z.1, t0]; omega)))
theorem m_houseOf (R : MRel M a r ρ A) {x1 x2 : Int32} {Q : Int32 → gM → Prop} (q : Km (spHouseOf A x1 x2) a ρ M Q) : F_X3_houseOf M a x1 x2 Q := by
  have h := R.1
  refine m_rc h (m_gH R (fun x e1 => bF n10 ?_) (fun e1 => bT rfl (m_bad R (by unfold spHouseOf; rw [e1]) q)))
  have d1 := dec_some e1
  obtain ⟨g1, g2, g3⟩ := R.hs d1.1
  rw [d1.2.1]
  refine m_inD (n := 4) (by omega) (fun w e2 => bF n10 ?_) (fun e2 => bT rfl (m_bad R (by unfold spHouseOf; rw [e1, e2]) q))
  have d2 := dec_some e2
  rw [d2.2.1]
  refine m_g2 h rfl (m_aN h rfl (by omega) (by omega) (m_bI h rfl (by omega) (by omega) (by omega) ?_))
  rw [g1 w (by omega)]
  exact m_end R FrW.rf (by unfold spHouseOf; rw [e1, e2]) q
theorem m_sortOf (R : MRel M a r ρ A) {x1 x2 x3 : Int32} {Q : Int32 → gM → Prop} (q : Km (spSortOf A x1 x2 x3) a ρ M Q) : F_X3_sortOf M a x1 x2 x3 Q := by
  have h := R.1
  refine m_rc h (m_gH R (fun x e1 => bF n10 ?_) (fun e1 => bT rfl (m_bad R (by unfold spSortOf; rw [e1]) q)))
  have d1 := dec_some e1
  obtain ⟨g1, g2, g3⟩ := R.hs d1.1
  have hk := g2.2.2.2.2.1.2
  rw [d1.2.1]
  refine m_rc h (m_sorts h (by omega) g1 (m_inL (by omega) (fun i e2 => bF n10 ?_) (fun e2 => bT rfl (m_bad R (by unfold spSortOf; rw [e1]; simp only; rw [e2]) q))))
  refine m_inD (n := 4) (by omega) (fun w e3 => bT' n10 ?_) (fun e3 => bF' rfl (m_bad R (by unfold spSortOf; rw [e1]; simp only; rw [e2, e3]) q))
  have d2 := dec_some e2
  have d3 := dec_some e3
  rw [d2.2.1, d3.2.1, i32_lit 5, i32_mul, i32_add, i32_add]
  refine m_g2 h rfl (m_aN h rfl (by omega) (by omega) (m_bI h rfl (by omega) (by omega) (by omega) ?_))
  rw [g1 _ (by omega)]
  exact m_end R FrW.rf (by unfold spSortOf; rw [e1]; simp only; rw [e2, e3]) q
/-- one number of a house is set -/
theorem MRel.put (R : MRel M a r ρ A) {x i v : Nat} (hx : x < aH A) (hi : i ≠ 4) (hW : Wf (upP (aP A x) i v)) : MRel (sI M (r 12 + 1 + x) i (Int32.ofNat v)) a r ρ (sNow A (setH (aNow A) x (upP (aP A x) i v))) ∧ Fmm ρ M ρ (sI M (r 12 + 1 + x) i (Int32.ofNat v)) := by
  have h := R.1
  obtain ⟨k1, k2, k3, k4, k5⟩ := R.2.2.2.2.2.2.1
  have k2' : aH A ≤ 6 := k2
  have f : FrB ρ 1000 (r 12 + 1 + x) M (sI M (r 12 + 1 + x) i (Int32.ofNat v)) := Fr.rf.b.w
  refine R.slot (by omega) f ⟨rfl, rfl⟩ ((f.e11 h (by omega)).trans k1) k2 (fun y hy => ?_)
  have hy : y < aH A := hy
  show HsM _ r y (if y = x then upP (aP A x) i v else aP A y) ∧ Wf (if y = x then upP (aP A x) i v else aP A y)
  by_cases c : y = x
  · rw [if_pos c, c]
    refine ⟨fun j hj => ?_, hW⟩
    rw [up_ne (by omega : (4 : Nat) ≠ i)] at hj
    by_cases c2 : j = i
    · rw [c2, mI_eq, up_eq]
    · rw [mI_ne (Or.inr c2), up_ne c2]
      exact (k3 x hx).1 j hj
  · rw [if_neg c]
    exact ⟨f.hsB h (by omega) c (k3 y hy).1, (k3 y hy).2⟩
theorem m_alter (R : MRel M a r ρ A) {x1 x2 x3 : Int32} {Q : Int32 → gM → Prop} (q : Km (spAlter A x1 x2 x3) a ρ M Q) : F_X3_alter M a x1 x2 x3 Q := by
  have h := R.1
  refine m_rc h (m_gH R (fun x e1 => bF n10 ?_) (fun e1 => bT rfl (m_bad R (by unfold spAlter; rw [e1]) q)))
  have d1 := dec_some e1
  obtain ⟨g1, g2, g3⟩ := R.hs d1.1
  rw [d1.2.1]
  refine m_inD (n := 2) (by omega) (fun w e2 => bF n10 ?_) (fun e2 => bT rfl (m_bad R (by unfold spAlter; rw [e1, e2]) q))
  have d2 := dec_some e2
  have es : spAlter A x1 x2 x3 = match alOf w x3 with | some v => (Int32.ofNat (aP A x (1 + w)), sNow A (setH (aNow A) x (upP (aP A x) (1 + w) v))) | none => rj A 2 := by unfold spAlter; rw [e1, e2]; rfl
  -- the end
  have go : ∀ {y : Int32}, (alOf w x3 = none → y = 0) → (∀ v, alOf w x3 = some v → y = 1) → (y = 0 ∨ y = 1) → ((¬ y = 0 → gN M 3 a 12 fun a_3 => aN M (.array .int) a_3 (Int32.ofNat x) fun a_4 => aI M .int a_4 ((1 : Int32) + Int32.ofNat w) fun x_5 => gN M 3 a 12 fun a_6 => aN M (.array .int) a_6 (Int32.ofNat x) fun a_7 => uI M a_7 ((1 : Int32) + Int32.ofNat w) x3 fun M_8 => Q x_5 M_8) ∧ (y = 0 → F_X3_alter_b62 Q a M)) := by
    intro y h1 h2 _
    cases e3 : alOf w x3 with
    | none =>
      rw [h1 e3]
      exact bF' rfl (m_bad R (by rw [es, e3]) q)
    | some v =>
      rw [h2 v e3]
      rw [e3] at es
      rw [es] at q
      obtain ⟨hW, ex⟩ := g2.alt (by omega) e3
      rw [i32_lit 1, i32_add, ex]
      refine bT' n10 (m_g2 h rfl (m_aN h rfl (by omega) (by omega) (m_bI h rfl (by omega) (by omega) (by omega) (m_g2 h rfl (m_aN h rfl (by omega) (by omega) (m_vI h rfl (by omega) (by omega) (by omega) ?_))))))
      rw [g1 _ (by omega)]
      obtain ⟨R', F'⟩ := R.put (i := 1 + w) (v := v) d1.1 (by omega) hW
      exact q _ r ρ R' F'
  rw [d2.2.1]
  rcases (by omega : w = 0 ∨ w = 1 ∨ w = 2) with rfl | rfl | rfl
  · refine eqT' (b := 1) (by omega) (by omega) (by omega) (eqF' (b := 0) rfl ?_)
    exact m_inD (n := 99) (by omega) (fun v e3 => go (fun e4 => by have e4 : dec 100 x3 = none := e4; rw [e3] at e4; cases e4) (fun _ _ => rfl) (Or.inr rfl)) (fun e3 => go (fun _ => rfl) (fun v e4 => by have e4 : dec 100 x3 = some v := e4; rw [e3] at e4; cases e4) (Or.inl rfl))
  · have ea : alOf 1 x3 = match dec 41 x3 with | some a => if 1 ≤ a then some a else none | none => none := rfl
    refine eqF' (b := 1) rfl (eqT' (b := 0) (by omega) (by omega) (by omega) (eqF' (b := 1) rfl ?_))
    exact m_in1 (n := 40) (by omega) (fun v e3 hv => go (fun e4 => by rw [ea, e3] at e4; simp only at e4; rw [if_pos hv] at e4; cases e4) (fun _ _ => rfl) (Or.inr rfl)) (fun e3 => go (fun _ => rfl) (fun v e4 => by
      rw [ea] at e4
      cases e5 : dec 41 x3 with
      | none => rw [e5] at e4; cases e4
      | some s => rw [e5] at e4; simp only at e4; rw [if_neg (by have := e3 s e5; omega)] at e4; cases e4) (Or.inl rfl))
  · refine eqT' (b := 1) (by omega) (by omega) (by omega) (eqT' (b := 0) (by omega) (by omega) (by omega) (eqT' (b := 1) (by omega) (by omega) (by omega) ?_))
    exact m_inD (n := 3) (by omega) (fun v e3 => go (fun e4 => by have e4 : dec 4 x3 = none := e4; rw [e3] at e4; cases e4) (fun _ _ => rfl) (Or.inr rfl)) (fun e3 => go (fun _ => rfl) (fun v e4 => by have e4 : dec 4 x3 = some v := e4; rw [e3] at e4; cases e4) (Or.inl rfl))
theorem m_change (R : MRel M a r ρ A) {x1 x2 x3 x4 : Int32} {Q : Int32 → gM → Prop} (q : Km (spChange A x1 x2 x3 x4) a ρ M Q) : F_X3_change M a x1 x2 x3 x4 Q := by
  have h := R.1
  refine m_rc h (m_gH R (fun x e1 => bF n10 ?_) (fun e1 => bT rfl (m_bad R (by unfold spChange; rw [e1]) q)))
  have d1 := dec_some e1
  obtain ⟨g1, g2, g3⟩ := R.hs d1.1
  have hk := g2.2.2.2.2.1.2
  rw [d1.2.1]
  refine m_rc h (m_sorts h (by omega) g1 (m_inL (by omega) (fun i e2 => bF n10 ?_) (fun e2 => bT rfl (m_bad R (by unfold spChange; rw [e1]; simp only; rw [e2]) q))))
  refine m_inD (n := 3) (by omega) (fun w e3 => bF n10 ?_) (fun e3 => bT rfl (m_bad R (by unfold spChange; rw [e1]; simp only; rw [e2, e3]) q))
  have d2 := dec_some e2
  have d3 := dec_some e3
  have es : spChange A x1 x2 x3 x4 = match dec (if w = 0 then 5 else if w = 1 then 10 else 100) x4 with | some v => (Int32.ofNat (aP A x (6 + 5 * i + w)), sNow A (setH (aNow A) x (upP (aP A x) (6 + 5 * i + w) v))) | none => rj A 2 := by unfold spChange; rw [e1]; simp only; rw [e2, e3]; rfl
  have go : ∀ m, m + 1 = (if w = 0 then 5 else if w = 1 then 10 else 100) → F_X3_change_b65 Q a (Int32.ofNat x) (Int32.ofNat i) (Int32.ofNat w) x4 x4.toInt64 (0 : Int64) (Int64.ofNat m) M := by
    intro m hm
    rw [← hm] at es
    have h99 : m + 1 ≤ 100 := by rw [hm]; split <;> (try split) <;> omega
    refine m_inD (by omega) (fun v e4 => bT' n10 ?_) (fun e4 => bF' rfl (m_bad R (by rw [es, e4]) q))
    have d4 := dec_some e4
    rw [e4] at es
    rw [es] at q
    have e6 : (6 : Int32) + (5 : Int32) * Int32.ofNat i + Int32.ofNat w = Int32.ofNat (6 + 5 * i + w) := by rw [i32_lit 6, i32_lit 5, i32_mul, i32_add, i32_add]
    rw [e6, d4.2.1]
    refine m_g2 h rfl (m_aN h rfl (by omega) (by omega) (m_bI h rfl (by omega) (by omega) (by omega) (m_g2 h rfl (m_aN h rfl (by omega) (by omega) (m_vI h rfl (by omega) (by omega) (by omega) ?_)))))
    rw [g1 _ (by omega)]
    obtain ⟨R', F'⟩ := R.put (i := 6 + 5 * i + w) (v := v) d1.1 (by omega) (g2.chg d2.1 (by omega) (by rw [← hm]; exact d4.1))
    exact q _ r ρ R' F'
  rw [d2.2.1, d3.2.1]
  refine eqS' (b := 0) (by omega) (by omega) (fun c => eqS' (b := 1) (by omega) (by omega) (fun c2 => go 99 (by rw [if_neg c, if_neg c2])) (fun c2 => go 9 (by rw [if_neg c, if_pos c2]))) (fun c => go 4 (by rw [if_pos c]))
theorem m_of (R : MRel M a r ρ A) {x1 x2 : Int32} {Q : Int32 → gM → Prop} (q : Km (spOf A x1 x2) a ρ M Q) : F_X3_of M a x1 x2 Q := by
  refine m_inD (n := 124) (by omega) (fun s e1 => bF n10 ?_) (fun e1 => bT rfl (m_bad R (by unfold spOf; rw [e1]) q))
  refine m_inD (n := 2) (by omega) (fun i e2 => bF n10 ?_) (fun e2 => bT rfl (m_bad R (by unfold spOf; rw [e1, e2]) q))
  have d1 := dec_some e1
  have d2 := dec_some e2
  rw [d1.2.1, d2.2.1]
  exact m_ofState (by omega) (by omega) (m_end R FrW.rf (by unfold spOf; rw [e1, e2]) q)
theorem m_space (R : MRel M a r ρ A) {x1 x2 : Int32} {Q : Int32 → gM → Prop} (q : Km (spSpace A x1 x2) a ρ M Q) : F_X3_space M a x1 x2 Q := by
  have h := R.1
  refine m_rc h (m_gS R (fun x s e => bF n10 ?_) (fun e => bT rfl (m_bad R (by unfold spSpace; rw [e]) q)))
  obtain ⟨f1, f2, f3, f4, f5, f6, f7⟩ := R.fS e
  rw [f1, f3]
  exact m_rc h (m_sum (w := 0) h (by omega) f6 f7.2.2.2.2.1.2 (by omega) (by omega) (m_end R FrW.rf (by unfold spSpace; rw [e]) q))
theorem m_scale (R : MRel M a r ρ A) {x1 x2 : Int32} {Q : Int64 → gM → Prop} (q : Km (spScale A x1 x2) a ρ M Q) : F_X3_scale M a x1 x2 Q := by
  have h := R.1
  refine m_rc h (m_gL R (fun x d e => bF n10 ?_) (fun e => bT rfl (m_badJ R (by unfold spScale; rw [e]) q)))
  obtain ⟨f1, f2, f3, f4, f5, f6, f7, f8⟩ := R.fL e
  rw [f1, f3]
  exact m_rc h (m_scaleOf h (by omega) f7 f8.2.2.2.2.1.2 (by omega) (m_end R FrW.rf (by unfold spScale; rw [e]; rfl) q))
theorem m_fill (R : MRel M a r ρ A) {x1 x2 : Int32} {Q : Int32 → gM → Prop} (q : Km (spFill A x1 x2) a ρ M Q) : F_X3_fill M a x1 x2 Q := by
  have h := R.1
  refine m_rc h (m_gS R (fun x s e => bF n10 ?_) (fun e => bT rfl (m_bad R (by unfold spFill; rw [e]) q)))
  obtain ⟨f1, f2, f3, f4, f5, f6, f7⟩ := R.fS e
  rw [f1, f3]
  exact m_rc h (m_fillOf h (by omega) f6 f7 (by omega) (m_end R FrW.rf (by unfold spFill; rw [e]) q))
end MOP4
