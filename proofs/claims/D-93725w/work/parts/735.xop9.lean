/-! the class's operations: houses altered, joined -/
set_option maxRecDepth 100000
section XOP9
variable {M : gM} {ρ : Nat → Nat} {x : Nat} {A : Ab} {G : XG}
theorem CaX.z {a : Nat} {P P' : Nat → Nat} {M' : gM} (h : CaX M ρ a P) (hk : kd M' = kd M) (hr : mR M' = mR M) (hz : mI M' a 12 = 0) : CaX M' ρ a P' := by
  refine ⟨?_, ?_, Or.inl hz⟩
  · unfold RmA
    rw [hk, hr]
    exact h.1
  · unfold TbA
    rw [hk, hr]
    exact h.2.1
/-- one of a house's first numbers -/
theorem x_alt4 {a w v : Nat} {P : Nat → Nat} {y x3 : Int32} {Q : Int32 → gM → Prop} (hx : HX M ρ a P) (hw : w < 3) (hW : Wf (upP P (1 + w) v)) (e3 : x3 = Int32.ofNat v) (q : ∀ M', FmG (fun b _ => b = a) M M' → HX M' ρ a (upP P (1 + w) v) → Q y M') : F_X0_alter_b111 Q (Int32.ofNat w) x3 a y M := by
  obtain ⟨⟨r, hs⟩, ca, -⟩ := hx
  have k := hs.1.1
  have rn := (r_ne hs).1
  have fin : ∀ A1 A2 A3, A1 = Int32.ofNat (upP P (1 + w) v 1) → A2 = Int32.ofNat (upP P (1 + w) v 2) → A3 = Int32.ofNat (upP P (1 + w) v 3) → Q y (sI (sI (sI (sI M a 1 A1) a 2 A2) a 3 A3) a 12 0) := by
    intro A1 A2 A3 h1 h2 h3
    have fm : ∀ (N : gM) (k : Nat) (y : Int32), FmG (fun b _ => b = a) M N → FmG (fun b _ => b = a) M (sI N a k y) := fun N k y f => f.tr (FmG.sI rfl)
    refine q _ (fm _ _ _ (fm _ _ _ (fm _ _ _ (fm _ _ _ FmG.rf)))) ⟨⟨r, hs.1, fun i hi => ?_, fun z hz => ⟨(hs.2.2 z hz).1, (hs.2.2 z hz).2.1, fun i hi => ?_⟩⟩, ca.z rfl rfl mI_eq, hW⟩
    · refine (mI_ne (Or.inr (by omega))).trans ?_
      rcases (by omega : i = 3 ∨ i ≠ 3) with e | e
      · subst e; exact mI_eq.trans h3
      · refine (mI_ne (Or.inr e)).trans ?_
        rcases (by omega : i = 2 ∨ i ≠ 2) with e2 | e2
        · subst e2; exact mI_eq.trans h2
        · refine (mI_ne (Or.inr e2)).trans ?_
          rcases (by omega : i = 1 ∨ i ≠ 1) with e1 | e1
          · subst e1; exact mI_eq.trans h1
          · refine (mI_ne (Or.inr e1)).trans ((hs.2.1 i hi).trans ?_)
            rw [up_ne (by omega)]
    · have e4 : upP P (1 + w) v 4 = P 4 := up_ne (by omega)
      have hi : i < upP P (1 + w) v 4 := hi
      rw [e4] at hi
      have n := rn z hz
      refine (mI_ne (Or.inl n)).trans ((mI_ne (Or.inl n)).trans ((mI_ne (Or.inl n)).trans ((mI_ne (Or.inl n)).trans (((hs.2.2 z hz).2.2 i hi).trans ?_))))
      rw [up_ne (by omega)]
  have n12 : ∀ A1, mI (sI M a 1 A1) a 2 = Int32.ofNat (P 2) := fun A1 => (mI_ne (Or.inr (by omega))).trans (hs.2.1 2 (by omega))
  have n13 : ∀ A1 A2, mI (sI (sI M a 1 A1) a 2 A2) a 3 = Int32.ofNat (P 3) := fun A1 A2 => (mI_ne (Or.inr (by omega))).trans ((mI_ne (Or.inr (by omega))).trans (hs.2.1 3 (by omega)))
  have n11 := hs.2.1 1 (by omega)
  rcases (by omega : w = 0 ∨ w = 1 ∨ w = 2) with rfl | rfl | rfl
  · exact bF' rfl ⟨k, bT' (by decide) (gI_i k ⟨k, bT' (by decide) (gI_i k ⟨k, rc_i k ⟨k, fin _ _ _ (by rw [e3]; rfl) (by rw [n12]; rfl) (by rw [n13]; rfl)⟩⟩)⟩)⟩
  · exact bT' (by decide) (gI_i k ⟨k, bF' rfl ⟨k, bT' (by decide) (gI_i k ⟨k, rc_i k ⟨k, fin _ _ _ (by rw [n11]; rfl) (by rw [e3]; rfl) (by rw [n13]; rfl)⟩⟩)⟩⟩)
  · exact bT' (by decide) (gI_i k ⟨k, bT' (by decide) (gI_i k ⟨k, bF' rfl ⟨k, rc_i k ⟨k, fin _ _ _ (by rw [n11]; rfl) (by rw [n12]; rfl) (by rw [e3]; rfl)⟩⟩⟩)⟩)
theorem fmg_so {a : Nat} {M' : gM} (f : FmG (fun b _ => b = a) M M') (h : ρ a = Tg a 63) : Fx (SO a) ρ M ρ M' := f.fx (fun b i z => by rw [z]; exact ⟨63, by omega, h⟩)
theorem HX.tg {a : Nat} {P : Nat → Nat} (h : HX M ρ a P) : ρ a = Tg a 63 := by
  obtain ⟨⟨r, h⟩, -⟩ := h
  exact h.1.2
theorem x_alterO (R : XRl M ρ x A G) {x1 x2 x3 : Int32} {Q : Int32 → gM → Prop} (q : Kx (spAlter A x1 x2 x3) x ρ M Q) : F_X0_alter M x x1 x2 x3 Q := by
  have b47 : spAlter A x1 x2 x3 = rj A 2 → F_X0_alter_b48 Q x x1 x2 x3 (0 : Int32) M := fun e => R.rc (x_gH R (fun h e1 => bF n10 (bF' rfl (x_bad R e q))) (fun e1 => bT rfl (x_bad R e q)))
  have bad : (∀ w, dec 3 x2 = some w → alOf w x3 = none) → spAlter A x1 x2 x3 = rj A 2 := fun hn => by
    unfold spAlter
    cases e1 : dec (aH A) x1 with
    | none => rfl
    | some h => cases e2 : dec 3 x2 with
      | none => rfl
      | some w => simp only; rw [hn w e2]
  have good : ∀ w v, dec 3 x2 = some w → alOf w x3 = some v → F_X0_alter_b48 Q x x1 x2 x3 (1 : Int32) M := by
    intro w v e2 e3
    refine R.rc (x_gH R (fun h e1 => bF n10 (bT' n10 ?_)) (fun e1 => bT rfl (x_bad R (by unfold spAlter; rw [e1]) q)))
    have d1 := dec_some e1
    have d2 := dec_some e2
    have es : spAlter A x1 x2 x3 = (Int32.ofNat (aP A h (1 + w)), sNow A (setH (aNow A) h (upP (aP A h) (1 + w) v))) := by unfold spAlter; rw [e1, e2]; simp only; rw [e3]
    rw [es] at q
    have hx := R.hx d1.1
    obtain ⟨hW, ev⟩ := hx.2.2.alt d2.1 e3
    have main : F_X0_alter_b111 Q (Int32.ofNat w) x3 (G.1.2.1 h) (Int32.ofNat (aP A h (1 + w))) M := x_alt4 hx d2.1 hW ev (fun M' fm hx' => by
      obtain ⟨r1, r2⟩ := R.alt d1.1 (fmg_so fm hx.tg) hx'
      exact q M' ρ _ r1 r2)
    rw [d1.2.1, d2.2.1]
    refine x_hs R d1.1 ?_
    rcases (by omega : w = 0 ∨ w = 1 ∨ w = 2) with rfl | rfl | rfl
    · exact bF' rfl (hx.gi (by omega) main)
    · exact bT' (by decide) (bF' rfl (hx.gi (by omega) main))
    · exact bT' (by decide) (bT' (by decide) (hx.gi (by omega) main))
  cases e2 : dec 3 x2 with
  | none =>
    have ne : ∀ k, k < 3 → x2 ≠ Int32.ofNat k := fun k hk => dec_none e2 hk (by omega)
    exact bT' (ne 0 (by omega)) (bT' (ne 1 (by omega)) (bT' (ne 2 (by omega)) (b47 (bad (fun w e => by rw [e2] at e; cases e)))))
  | some w =>
    have d2 := dec_some e2
    have bad' : alOf w x3 = none → F_X0_alter_b48 Q x x1 x2 x3 (0 : Int32) M := fun e => b47 (bad (fun w' e' => by rw [e2] at e'; cases e'; exact e))
    have good' : ∀ v, alOf w x3 = some v → F_X0_alter_b48 Q x x1 x2 x3 (1 : Int32) M := fun v e => good w v e2 e
    rcases (by omega : w = 0 ∨ w = 1 ∨ w = 2) with rfl | rfl | rfl
    · exact bF' d2.2.1 (x_inD (n := 99) (by omega) (fun s es => good' s es) (fun es => bad' es))
    · have e1' : x2 = (1 : Int32) := d2.2.1
      refine bT' (by rw [e1']; decide) (bF' e1' (x_in (l := 1) (n := 40) (by omega) (by omega) (fun s es hs => good' s ?_) (fun es => bad' ?_)))
      · show (match dec 41 x3 with | some a => if 1 ≤ a then some a else none | none => none) = some s
        rw [es]
        simp only
        rw [if_pos hs]
      · show (match dec 41 x3 with | some a => if 1 ≤ a then some a else none | none => none) = none
        cases e : dec 41 x3 with
        | none => rfl
        | some a => simp only; rw [if_neg (by have := es a e; omega)]
    · have e1' : x2 = (2 : Int32) := d2.2.1
      exact bT' (by rw [e1']; decide) (bT' (by rw [e1']; decide) (bF' e1' (x_inD (n := 3) (by omega) (fun s es => bF n10 (good' s es)) (fun es => bT rfl (bad' es)))))
theorem x_changeO (R : XRl M ρ x A G) {x1 x2 x3 x4 : Int32} {Q : Int32 → gM → Prop} (q : Kx (spChange A x1 x2 x3 x4) x ρ M Q) : F_X0_change M x x1 x2 x3 x4 Q := by
  refine R.rc (x_gT R (fun h i e1 e2 => bF n10 ?_) (fun e1 => bT rfl (x_bad R (by unfold spChange; rw [e1]) q)) (fun h e1 e2 => bT rfl (x_bad R (by unfold spChange; rw [e1]; simp only; rw [e2]) q)))
  refine x_inD (n := 3) (by omega) (fun w e3 => bF n10 ?_) (fun e3 => bT rfl (x_bad R (by unfold spChange; rw [e1]; simp only; rw [e2, e3]) q))
  have d1 := dec_some e1
  have d2 := dec_some e2
  have d3 := dec_some e3
  have es : spChange A x1 x2 x3 x4 = match dec (if w = 0 then 5 else if w = 1 then 10 else 100) x4 with | some v => (Int32.ofNat (aP A h (6 + 5 * i + w)), sNow A (setH (aNow A) h (upP (aP A h) (6 + 5 * i + w) v))) | none => rj A 2 := by unfold spChange; rw [e1]; simp only; rw [e2, e3]; rfl
  have hx := R.hx d1.1
  have hx0 := hx
  obtain ⟨⟨r, hs⟩, ca, hw⟩ := hx0
  have h4 := hw.2.2.2.2.1.2
  have rn := (r_ne hs).1
  have rr := (r_ne hs).2
  have k := hs.1.1
  have fin : ∀ v, v < (if w = 0 then 5 else if w = 1 then 10 else 100) → dec (if w = 0 then 5 else if w = 1 then 10 else 100) x4 = some v → F_X0_change_b108 Q (Int32.ofNat i) (Int32.ofNat v) (G.1.2.1 h) (r (w + 1)) M := by
    intro v hv e4
    rw [e4] at es
    rw [es] at q
    have hr := hs.2.2 (w + 1) (by omega)
    refine aI_i hr.2.1.1 (by omega) (by omega) (uI_i hr.2.1.1 (by omega) (by omega) (rc_i k ⟨k, ?_⟩))
    rw [hr.2.2 i d2.1]
    have hW := hw.chg d2.1 d3.1 hv
    have fx : Fx (SO (G.1.2.1 h)) ρ M ρ (sI (sI M (r (w + 1)) i (Int32.ofNat v)) (G.1.2.1 h) 12 0) := (Fx.sI ⟨5 + (w + 1), by omega, hr.2.1.2⟩).tr (Fx.sI ⟨63, by omega, hs.1.2⟩)
    have hx' : HX (sI (sI M (r (w + 1)) i (Int32.ofNat v)) (G.1.2.1 h) 12 0) ρ (G.1.2.1 h) (upP (aP A h) (6 + 5 * i + w) v) := by
      refine ⟨⟨r, hs.1, fun j hj => ?_, fun z hz => ⟨(hs.2.2 z hz).1, (hs.2.2 z hz).2.1, fun j hj => ?_⟩⟩, ca.z rfl rfl mI_eq, hW⟩
      · refine (mI_ne (Or.inr (by omega))).trans ((mI_ne (Or.inl (fun e => rn (w + 1) (by omega) e.symm))).trans ((hs.2.1 j hj).trans ?_))
        rw [up_ne (by omega)]
      · have e4 : upP (aP A h) (6 + 5 * i + w) v 4 = aP A h 4 := up_ne (by omega)
        have hj : j < upP (aP A h) (6 + 5 * i + w) v 4 := hj
        rw [e4] at hj
        refine (mI_ne (Or.inl (rn z hz))).trans ?_
        by_cases c : z = w + 1 ∧ j = i
        · rw [c.1, c.2, mI_eq, show 5 + 5 * i + (w + 1) = 6 + 5 * i + w by omega, up_eq]
        · refine (mI_ne ?_).trans (((hs.2.2 z hz).2.2 j hj).trans ?_)
          · by_cases c1 : z = w + 1
            · exact Or.inr (fun c2 => c ⟨c1, c2⟩)
            · exact Or.inl (rr z (w + 1) hz (by omega) c1)
          · rw [up_ne (by omega)]
    obtain ⟨r1, r2⟩ := R.alt d1.1 fx hx'
    have eo : aP A h (5 + 5 * i + (w + 1)) = aP A h (6 + 5 * i + w) := by rw [show 5 + 5 * i + (w + 1) = 6 + 5 * i + w by omega]
    rw [eo]
    exact q _ ρ _ r1 r2
  have mid : ∀ n, n + 1 = (if w = 0 then 5 else if w = 1 then 10 else 100) → F_X0_change_b41 Q x x1 x2 (Int32.ofNat w) x4 x4 (0 : Int32) (Int32.ofNat n) M := by
    intro n hn
    refine x_inD (n := n) (by split at hn <;> (try split at hn) <;> omega) (fun v e4 => bT' n10 ?_) (fun e4 => bF' rfl (x_bad R (by rw [hn] at e4; rw [es, e4]) q))
    have d4 := dec_some e4
    rw [hn] at e4
    rw [d1.2.1, d2.2.1]
    refine x_hs R d1.1 ?_
    have fin' := fin v (by rw [← hn]; exact d4.1) e4
    rw [d4.2.1]
    rcases (by omega : w = 0 ∨ w = 1 ∨ w = 2 ∨ w = 3) with rfl | rfl | rfl | rfl
    · exact bF' rfl (gN_i k (hs.2.2 1 (by omega)).1 fin')
    · exact bT' (by decide) (bF' rfl (gN_i k (hs.2.2 2 (by omega)).1 fin'))
    · exact bT' (by decide) (bT' (by decide) (bF' rfl (gN_i k (hs.2.2 3 (by omega)).1 fin')))
    · exact bT' (by decide) (bT' (by decide) (bT' (by decide) (gN_i k (hs.2.2 4 (by omega)).1 fin')))
  rw [d3.2.1]
  rcases (by omega : w = 0 ∨ w = 1 ∨ w = 2 ∨ w = 3) with rfl | rfl | rfl | rfl
  · exact bF' rfl (mid 4 rfl)
  · exact bT' (by decide) (bF' rfl (mid 9 rfl))
  · exact bT' (by decide) (bT' (by decide) (mid 99 rfl))
  · exact bT' (by decide) (bT' (by decide) (mid 99 rfl))
/-- one more house -/
theorem XRl.addh {N : gM} {ρN P : Nat → Nat} {b : Nat} (R : XRl M ρ x A G) (f : Fx S0 ρ M ρN N) (hb : HX N ρN b P) (hf : kd M b = none) (h6 : aH A < 6) : ∃ hs, mR N G.1.1 0 = some hs ∧ kd N hs = some (true, .inr (.object "SendTheBox$House", 6)) ∧ kd N G.1.1 = some (true, .inl 1) ∧ mI N G.1.1 1 = Int32.ofNat (aH A) ∧ hs ≠ G.1.1 ∧ XRl (sI (sR N hs (aH A) (some b)) G.1.1 1 (Int32.ofNat (aH A + 1))) ρN x (sNow A (addH (aNow A) P)) ((G.1.1, (fun h => if h = aH A then b else G.1.2.1 h, G.1.2.2)), G.2.1, G.2.2.1, fun z => if z = b then P else G.2.2.2 z) ∧ Ext ρ M ρN (sI (sR N hs (aH A) (some b)) G.1.1 1 (Int32.ofNat (aH A + 1))) := by
  have RN := R.new f
  obtain ⟨k0, ⟨hs, k1, k2, k3⟩, k4, k5, k6, k7⟩ := RN.2.2.2.2.2.2.2.2.1.2.1
  have kA := RN.2.2.2.2.2.2.2.2.1.2.2
  have d1 := RN.2.2.2.2.2.2.2.2.2.1
  have d2 := RN.2.2.2.2.2.2.2.2.2.2.1
  have nk : hs ≠ G.1.1 := fun e => by rw [e, k0.1] at k2; cases k2.1
  have bk : b ≠ G.1.1 := ki_ne hb.kd_ k0.1 (by omega)
  have f1 : Fx (SO G.1.1) ρN N ρN (sI (sR N hs (aH A) (some b)) G.1.1 1 (Int32.ofNat (aH A + 1))) := (Fx.sR ⟨0, by omega, k2.2⟩).tr (Fx.sI ⟨63, by omega, k0.2⟩)
  have f2 : Fx (SO G.1.1) ρ M ρN (sI (sR N hs (aH A) (some b)) G.1.1 1 (Int32.ofNat (aH A + 1))) := (f.mono (fun t i z => z.elim)).tr f1
  have nb : ∀ z, kd M z ≠ none → z ≠ b := fun z hz e => hz (by rw [e]; exact hf)
  have k0M := R.2.2.2.2.2.2.2.2.1.2.1.1.1
  have ho : ∀ z, HX M ρ z (G.2.2.2 z) → HX (sI (sR N hs (aH A) (some b)) G.1.1 1 (Int32.ofNat (aH A + 1))) ρN z ((fun z => if z = b then P else G.2.2.2 z) z) := fun z hz => by
    simp only
    rw [if_neg (nb z (live_of hz.kd_))]
    exact hz.cl f2 (SO.cl (ki_ne hz.kd_ k0M (by omega)))
  have hb' := hb.cl f1 (SO.cl bk)
  have kAM := R.2.2.2.2.2.2.2.2.1.2.2
  have hP : ∀ h, h < aH A + 1 → (fun z => if z = b then P else G.2.2.2 z) ((fun h => if h = aH A then b else G.1.2.1 h) h) = kP (addH (aNow A) P) h := fun h hh => by
    show (if (if h = aH A then b else G.1.2.1 h) = b then P else G.2.2.2 (if h = aH A then b else G.1.2.1 h)) = if h = aH A then P else kP (aNow A) h
    by_cases c : h = aH A
    · rw [if_pos c, if_pos c, if_pos rfl]
    · rw [if_neg c, if_neg c, if_neg (nb _ (live_of (R.hx (show h < aH A by omega)).kd_)), kAM.1 h (by unfold aH at *; omega)]
  have hW : ∀ v, kWk (aNow A) = some v → (fun z => if z = b then P else G.2.2.2 z) G.1.2.2.2 = v.1.1 := fun v ev => by
    have k7M := R.2.2.2.2.2.2.2.2.1.2.1.2.2.2.2.2
    rw [ev] at k7M
    show (if G.1.2.2.2 = b then P else G.2.2.2 G.1.2.2.2) = _
    rw [if_neg (nb _ (live_of k7M.2.2.1.2.kd_)), kAM.2 v ev]
  refine ⟨hs, k1, k2.1, k0.1, k4.1, nk, R.now (K' := addH (aNow A) P) (g' := (fun h => if h = aH A then b else G.1.2.1 h, G.1.2.2)) (pA := fun z => if z = b then P else G.2.2.2 z) f2 (fun z _ h1 _ => SO.cl h1) ho (fun z hz _ => if_neg (nb z hz)) (fun i => SO.n5) ⟨⟨k0, ⟨hs, (mR_ne (Or.inl (fun e => nk e.symm))).trans k1, k2, fun h hh => ?_⟩, ⟨mI_eq, by show aH A + 1 ≤ 6; omega⟩, (mI_ne (Or.inr (by omega))).trans k5, fun h hh => ?_, ?_⟩, hP, hW⟩ ⟨fun h g hh hg hne => ?_, fun h v hh ev => ?_⟩ (fun h hh => ?_) (fun w ew => Or.inl ⟨w, ew, rfl⟩), f2.ext (fun t i z => z.ge)⟩
  · have hh : h < aH A + 1 := hh
    show mR (sR N hs (aH A) (some b)) hs h = some (if h = aH A then b else G.1.2.1 h)
    by_cases c : h = aH A
    · rw [if_pos c, c]; exact if_pos ⟨rfl, rfl⟩
    · rw [if_neg c]
      exact (mR_ne (Or.inr c)).trans (k3 h (by unfold aH at *; omega))
  · have hh : h < aH A + 1 := hh
    have hPh := hP h hh
    rw [← hPh]
    show HX _ ρN (if h = aH A then b else G.1.2.1 h) (if (if h = aH A then b else G.1.2.1 h) = b then P else G.2.2.2 (if h = aH A then b else G.1.2.1 h))
    by_cases c : h = aH A
    · rw [if_pos c, if_pos rfl]; exact hb'
    · rw [if_neg c]
      exact ho _ (by rw [kAM.1 h (by unfold aH at *; omega)]; exact R.hx (show h < aH A by omega))
  · show match kWk (aNow A) with | none => _ | some v => _
    have k7M := R.2.2.2.2.2.2.2.2.1.2.1.2.2.2.2.2
    cases ew : kWk (aNow A) with
    | none => rw [ew] at k7; exact (mR_ne (Or.inl (fun e => nk e.symm))).trans k7
    | some w =>
      rw [ew] at k7 k7M
      exact ⟨(mR_ne (Or.inl (fun e => nk e.symm))).trans k7.1, k7M.2.fx f2 (SO.cl (ki_ne k7M.2.1.1 k0M (by omega))) (fun z u n h => h.cl f2 (SO.cl (h.ne2 k0M (by omega)))) ho (kAM.2 w ew) (hW w ew)⟩
  · have hh : h < aH A + 1 := hh
    have hg : g < aH A + 1 := hg
    show (if h = aH A then b else G.1.2.1 h) ≠ (if g = aH A then b else G.1.2.1 g)
    by_cases c : h = aH A
    · rw [if_pos c, if_neg (by omega)]
      exact fun e => nb _ (live_of (R.hx (show g < aH A by omega)).kd_) e.symm
    · rw [if_neg c]
      by_cases c2 : g = aH A
      · rw [if_pos c2]
        exact nb _ (live_of (R.hx (show h < aH A by omega)).kd_)
      · rw [if_neg c2]
        exact d1 h g (by omega) (by omega) hne
  · have hh : h < aH A + 1 := hh
    have ev : kWk (aNow A) = some v := ev
    have k7M := R.2.2.2.2.2.2.2.2.1.2.1.2.2.2.2.2
    rw [ev] at k7M
    show (if h = aH A then b else G.1.2.1 h) ≠ G.1.2.2.2
    by_cases c : h = aH A
    · rw [if_pos c]
      exact fun e => nb _ (live_of k7M.2.2.1.2.kd_) e.symm
    · rw [if_neg c]
      exact d2 h v (by omega) ev
  · have hh : h < aH A + 1 := hh
    show (∃ h', h' < aH A ∧ (if h = aH A then b else G.1.2.1 h) = G.1.2.1 h') ∨ kd M (if h = aH A then b else G.1.2.1 h) = none
    by_cases c : h = aH A
    · rw [if_pos c]; exact Or.inr hf
    · rw [if_neg c]; exact Or.inl ⟨h, by omega, rfl⟩
end XOP9
