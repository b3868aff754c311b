/-! the model's operations: steps and weeks -/
set_option maxRecDepth 100000
theorem stpN_0 (w : Wk) (sd : Int32) : stpN 0 w sd = (0, w, sd) := rfl
theorem stpN_z {k : Nat} {w : Wk} {sd : Int32} (h : w.2.1.1 = 0) : stpN k w sd = (0, w, sd) := by
  cases k with
  | zero => rfl
  | succ k => exact if_pos h
/-- a week behind one more day -/
noncomputable def wkD (w : Wk) (sd : Int32) : Wk := (w.1, (w.2.1.1 - 1, (dyR w.1.1 w.1.2 w.2.1.1 w.2.1.2 sd).2.2.1), (w.2.2.1 + dayC w.1.1 w.1.2 w.2.1.1 w.2.1.2 sd, w.2.2.2.1 + dayB w.1.1 w.1.2 w.2.1.1 w.2.1.2 sd, w.2.2.2.2.1 + Int32.ofNat (pcs (dyL w.1.1 w.1.2 w.2.1.1 w.2.1.2 sd)), w.2.2.2.2.2 + (dyR w.1.1 w.1.2 w.2.1.1 w.2.1.2 sd).2.2.2))
theorem stpN_s {k : Nat} {w : Wk} {sd : Int32} (h : w.2.1.1 ≠ 0) : stpN (k + 1) w sd = (dayC w.1.1 w.1.2 w.2.1.1 w.2.1.2 sd + (stpN k (wkD w sd) (dyR w.1.1 w.1.2 w.2.1.1 w.2.1.2 sd).1).1, (stpN k (wkD w sd) (dyR w.1.1 w.1.2 w.2.1.1 w.2.1.2 sd).1).2) := if_neg h
section MOP9
variable {S : Nat → Nat → Prop} {M M' : gM} {a : Nat} {r ρ : Nat → Nat} {A : Ab}
theorem Fr.fa {N N1 : gM} (h : LayM N a r ρ 1000) (f : Fr ρ 1000 N N1) {i : Nat} (hi : i < 23) : mI N1 a i = mI N a i := (f.2 a i (by
  have := h.1.2
  rintro (⟨k, hk, e⟩ | ⟨e, z⟩) <;> omega)).1
def SSt (ρ : Nat → Nat) (a b i : Nat) : Prop := Sc ρ 1000 b i ∨ (b = a ∧ 13 ≤ i ∧ i ≤ 20)
theorem SSt.no (h : LayM M a r ρ 1000) {x i t : Nat} (hx : ρ x = 1000 + t) (ht : t < 28) (h4 : t ≠ 4) : ¬ SSt ρ a x i := by
  have t0 := h.1.2
  rintro ((⟨k, hk, e⟩ | ⟨e, z⟩) | ⟨e, -⟩)
  · omega
  · omega
  · rw [e] at hx; omega
theorem SSt.yes (h : LayM M a r ρ 1000) {b i : Nat} (z : SSt ρ a b i) : SKp ρ b i ∨ SRu r ρ b i := by
  rcases z with z | ⟨e, z⟩
  · exact Or.inl (Or.inl z)
  · rw [e]; exact Or.inl (Or.inr (Or.inl ⟨h.1.2, Or.inr z⟩))
theorem m_step (R : MRel M a r ρ A) {x1 : Int32} {Q : Int32 → gM → Prop} (q : Km (spStep A x1) a ρ M Q) : F_X3_step M a x1 Q := by
  have h := R.1
  have t0 := h.1.2
  obtain ⟨k1, k2, k3, k4, k5⟩ := R.2.2.2.2.2.2.1
  have k2' : aH A ≤ 6 := k2
  refine m_in1 (n := 6) (by omega) (fun n e1 hn => bT' n10 (m_gI h ?_)) (fun e1 => bF' rfl (m_bad R ?_ q))
  · have d1 := dec_some e1
    have sp : spStep A x1 = match kWk (aNow A) with | none => rj A 5 | some w => if w.2.1.1 = 0 then rj A 5 else ((stpN n w (kSd (aNow A))).1, sNow A (sSd (sWk (aNow A) (stpN n w (kSd (aNow A))).2.1) (stpN n w (kSd (aNow A))).2.2)) := by
      unfold spStep
      rw [e1]
      exact if_neg (by omega)
    have no : spStep A x1 = rj A 5 → F_X3_step_b33 Q a M := fun e => m_rc h (m_rj (n := 5) R (by omega) e q)
    cases ew : kWk (aNow A) with
    | none =>
      rw [ew] at k5 sp
      have k5 : mI M a 14 = 0 := k5
      rw [k5]
      exact bT rfl (no sp)
    | some w0 =>
      rw [ew] at k5 sp
      simp only at sp
      obtain ⟨a1, a2, a3, a4, a5, a6, a7, a8, a9⟩ := k5
      have hd0 := a2.2.1
      rw [a1]
      refine bF (by decide) (m_gI h ?_)
      rw [a4.1]
      refine eqS' (b := 0) (by omega) (by omega) (fun c0 => ?_) (fun c0 => no (by rw [sp, if_pos c0]))
      rw [if_neg c0] at sp
      rw [sp] at q
      have hw := a2.2
      have hk := hw.2.2.2.2.1
      refine m_rc h (m_findBest (x := 7) (mu := fun _ => false) h (by omega) a2.1 hw (mu0 R.mu) (fun N0 f0 wy wb0 => ?_))
      have hN0 := f0.lay h
      rw [d1.2.1]
      have g0 : FmG (SSt ρ a) M N0 := ⟨f0.1, fun b i z => f0.2 b i (fun y => z (Or.inl y))⟩
      -- the end
      have fin : ∀ (c : Int32) (w : Wk) (sd : Int32) (N : gM), stpN n w0 (kSd (aNow A)) = (c, w, sd) → FmG (SSt ρ a) M N → w.1 = w0.1 → mI N a 13 = sd → mI N a 14 = 1 → (mI N a 15 = Int32.ofNat w.2.1.1 ∧ w.2.1.1 ≤ w0.1.1 0) → (mI N a 16 = Int32.ofNat w.2.1.2 ∧ w.2.1.2 < 5 ^ w0.1.1 4) → mI N a 17 = w0.2.2.1 → w.2.2.1 = w0.2.2.1 + c → mI N a 18 = w.2.2.2.1 → mI N a 19 = w.2.2.2.2.1 → mI N a 20 = w.2.2.2.2.2 → F_X3_step_b144 Q a c N := by
        intro c w sd N es g e1 e13 e14 e15 e16 e17 ec e18 e19 e20
        have hN := g.lay h
        refine m_gI hN (m_pI hN ?_)
        rw [e17, ← ec]
        rw [es] at q
        simp only at q
        have g' : FmG (SSt ρ a) M (sI N a 17 w.2.2.1) := g.tr (FmG.sI (Or.inr ⟨rfl, by omega⟩))
        refine q _ r ρ (R.setKp (g'.mono (fun b i z => z.yes h)) rfl rfl ⟨(g'.2 _ _ (by
          rintro ((⟨k, hk, e⟩ | ⟨e, z⟩) | ⟨e, z⟩) <;> omega)).1.trans k1, k2, fun y hy => ⟨g'.hs (fun i => SSt.no h (tg2 h (k := 12) rfl (Nat.lt_of_lt_of_le hy (Nat.le_trans k2 (by omega)))) (by omega) (by omega)) (k3 y hy).1, (k3 y hy).2⟩, (mI_ne (Or.inr (by omega))).trans e13, ?_⟩) (g'.fmm (fun b i z => ?_))
        · show WkM _ a r (some w)
          refine ⟨(mI_ne (Or.inr (by omega))).trans e14, ?_, ?_, ?_, ?_, mI_eq, (mI_ne (Or.inr (by omega))).trans e18, (mI_ne (Or.inr (by omega))).trans e19, (mI_ne (Or.inr (by omega))).trans e20⟩
          · rw [e1]; exact ⟨g'.hs (fun i => SSt.no h (tg2 h (k := 12) (j := 7) rfl (by omega)) (by omega) (by omega)) a2.1, a2.2⟩
          · rw [e1]; exact ⟨g'.ru (SSt.no h (tg1 h (k := 5) rfl) (by omega) (by omega)) (SSt.no h (tg1 h (k := 6) rfl) (by omega) (by omega)) (fun i => SSt.no h (tg2 h (k := 7) (j := 8) rfl (by omega)) (by omega) (by omega)) a3.1, a3.2⟩
          · rw [e1]; exact ⟨(mI_ne (Or.inr (by omega))).trans e15.1, e15.2⟩
          · rw [e1]; exact ⟨(mI_ne (Or.inr (by omega))).trans e16.1, e16.2⟩
        · rcases z with (⟨k, hk, e⟩ | ⟨e, z⟩) | ⟨e, z⟩
          · omega
          · omega
          · rw [e]; omega
      refine loopR (fun g v N => F_X3_step_b50 Q a (Int32.ofNat n) g v.1 v.2 N) (fun i v N => ∃ (w : Wk) (sd : Int32), FmG (SSt ρ a) M N ∧ Bst N r w0.1.1 (fun _ => false) (w0.1.1 0 + 1) ∧ w.1 = w0.1 ∧ mI N a 13 = sd ∧ mI N a 14 = 1 ∧ (mI N a 15 = Int32.ofNat w.2.1.1 ∧ w.2.1.1 ≤ w0.1.1 0) ∧ (mI N a 16 = Int32.ofNat w.2.1.2 ∧ w.2.1.2 < 5 ^ w0.1.1 4) ∧ mI N a 17 = w0.2.2.1 ∧ w.2.2.1 = w0.2.2.1 + v.1 ∧ mI N a 18 = w.2.2.2.1 ∧ mI N a 19 = w.2.2.2.2.1 ∧ mI N a 20 = w.2.2.2.2.2 ∧ v.2 = Int32.ofNat i ∧ stpN n w0 (kSd (aNow A)) = (v.1 + (stpN (n - i) w sd).1, (stpN (n - i) w sd).2)) n (fun i hi g v N hI k => ?_) (fun g v N hI => ?_) ((0 : Int32), (0 : Int32)) N0 ⟨w0, kSd (aNow A), g0, wb0, rfl, (f0.fa h (by omega)).trans k4, (f0.fa h (by omega)).trans a1, ⟨(f0.fa h (by omega)).trans a4.1, a4.2⟩, ⟨(f0.fa h (by omega)).trans a5.1, a5.2⟩, (f0.fa h (by omega)).trans a6, by grind -lia, (f0.fa h (by omega)).trans a7, (f0.fa h (by omega)).trans a8, (f0.fa h (by omega)).trans a9, rfl, ?_⟩
      · obtain ⟨vc, vi⟩ := v
        obtain ⟨w, sd, gN, wb, e1', e13, e14, e15, e16, e17, ec, e18, e19, e20, ev, es⟩ := hI
        simp only at ev ec es
        subst ev
        have hN := gN.lay h
        show F_X3_step_b50 Q a (Int32.ofNat n) (g + 1) vc (Int32.ofNat i) N
        refine leF hi (by omega) (m_gI hN ?_)
        rw [e15.1]
        refine leS (b := 0) (by omega) (by omega) (fun c => ?_) (fun c => m_gI hN (m_gI hN ?_))
        · rw [stpN_z (w := w) (sd := sd) (k := n - i) (by omega)] at es
          refine fin vc w sd N ?_ gN e1' e13 e14 e15 e16 e17 ec e18 e19 e20
          rw [es]
          simp only
          have : vc + 0 = vc := by grind -lia
          rw [this]
        · rw [e15.1, e16.1]
          have hP7 : HsM N r 7 w0.1.1 := gN.hs (fun i => SSt.no h (tg2 h (k := 12) (j := 7) rfl (by omega)) (by omega) (by omega)) a2.1
          have hR8 : RuM N r 8 w0.1.2 := gN.ru (SSt.no h (tg1 h (k := 5) rfl) (by omega) (by omega)) (SSt.no h (tg1 h (k := 6) rfl) (by omega) (by omega)) (fun i => SSt.no h (tg2 h (k := 7) (j := 8) rfl (by omega)) (by omega) (by omega)) a3.1
          refine m_rc hN (m_day (x := 7) (n := 8) hN (by omega) hP7 hw (by omega) hR8 a3.2 wb ⟨by omega, e15.2⟩ e16.2 e13 (fun N1 f1 wb1 b42 b43 b44 b45 => ?_))
          have h1L := f1.lay (hN.sI a 13 (dyR w0.1.1 w0.1.2 w.2.1.1 w.2.1.2 sd).1)
          have lt := dyR_lt hw (u := w0.1.2) (d := w.2.1.1) (sd := sd) e16.2
          have ta := h1L.1.2
          refine m_gI h1L (m_pI h1L (m_gI (h1L.sI _ _ _) (m_gI (h1L.sI _ _ _) (m_pI (h1L.sI _ _ _) (m_gI ((h1L.sI _ _ _).sI _ _ _) (m_gI ((h1L.sI _ _ _).sI _ _ _) (m_pI ((h1L.sI _ _ _).sI _ _ _) (m_gI (((h1L.sI _ _ _).sI _ _ _).sI _ _ _) (m_gI (((h1L.sI _ _ _).sI _ _ _).sI _ _ _) (m_pI (((h1L.sI _ _ _).sI _ _ _).sI _ _ _) (m_gI ((((h1L.sI _ _ _).sI _ _ _).sI _ _ _).sI _ _ _) (m_pI ((((h1L.sI _ _ _).sI _ _ _).sI _ _ _).sI _ _ _) ?_))))))))))))
          have r1 : ∀ i, i < 23 → i ≠ 13 → mI N1 a i = mI N a i := fun i hi h13 => (f1.fa (hN.sI _ _ _) hi).trans (mI_ne (Or.inr h13))
          rw [b45, mI_ne (Or.inr (by omega)), mI_ne (Or.inr (by omega)), r1 18 (by omega) (by omega), b42, e18]
          rw [mI_ne (Or.inr (by omega)), mI_ne (Or.inr (by omega)), mI_ne (Or.inr (by omega)), mI_ne (Or.inr (by omega)), r1 19 (by omega) (by omega), b43, e19]
          rw [mI_ne (Or.inr (by omega)), mI_ne (Or.inr (by omega)), mI_ne (Or.inr (by omega)), mI_ne (Or.inr (by omega)), mI_ne (Or.inr (by omega)), mI_ne (Or.inr (by omega)), r1 20 (by omega) (by omega), b44, e20]
          rw [mI_ne (Or.inr (by omega)), mI_ne (Or.inr (by omega)), mI_ne (Or.inr (by omega)), mI_ne (Or.inr (by omega)), r1 15 (by omega) (by omega), e15.1]
          rw [i32_lit 1, i32_sub (by omega), i32_add]
          have sA : ∀ {i : Nat}, 13 ≤ i → i ≤ 20 → SSt ρ a a i := fun h1 h2 => Or.inr ⟨rfl, h1, h2⟩
          have g1 : FmG (SSt ρ a) M N1 := (gN.tr (FmG.sI (x := (dyR w0.1.1 w0.1.2 w.2.1.1 w.2.1.2 sd).1) (sA (by omega) (by omega)))).tr ⟨f1.1, fun b i z => f1.2 b i (fun y => z (Or.inl y))⟩
          have g5 : FmG (SSt ρ a) M (sI (sI (sI (sI (sI N1 a 16 (Int32.ofNat (dyR w0.1.1 w0.1.2 w.2.1.1 w.2.1.2 sd).2.2.1)) a 18 (w.2.2.2.1 + dayB w0.1.1 w0.1.2 w.2.1.1 w.2.1.2 sd)) a 19 (w.2.2.2.2.1 + Int32.ofNat (pcs (dyL w0.1.1 w0.1.2 w.2.1.1 w.2.1.2 sd)))) a 20 (w.2.2.2.2.2 + (dyR w0.1.1 w0.1.2 w.2.1.1 w.2.1.2 sd).2.2.2)) a 15 (Int32.ofNat (w.2.1.1 - 1))) := ((((g1.tr (FmG.sI (sA (by omega) (by omega)))).tr (FmG.sI (sA (by omega) (by omega)))).tr (FmG.sI (sA (by omega) (by omega)))).tr (FmG.sI (sA (by omega) (by omega)))).tr (FmG.sI (sA (by omega) (by omega)))
          have wb5 := ((((wb1.wI (i := 16) (x := Int32.ofNat (dyR w0.1.1 w0.1.2 w.2.1.1 w.2.1.2 sd).2.2.1) h1L (by omega) ta (by omega)).wI (i := 18) (x := w.2.2.2.1 + dayB w0.1.1 w0.1.2 w.2.1.1 w.2.1.2 sd) (h1L.sI _ _ _) (by omega) ta (by omega)).wI (i := 19) (x := w.2.2.2.2.1 + Int32.ofNat (pcs (dyL w0.1.1 w0.1.2 w.2.1.1 w.2.1.2 sd))) ((h1L.sI _ _ _).sI _ _ _) (by omega) ta (by omega)).wI (i := 20) (x := w.2.2.2.2.2 + (dyR w0.1.1 w0.1.2 w.2.1.1 w.2.1.2 sd).2.2.2) (((h1L.sI _ _ _).sI _ _ _).sI _ _ _) (by omega) ta (by omega)).wI (i := 15) (x := Int32.ofNat (w.2.1.1 - 1)) ((((h1L.sI _ _ _).sI _ _ _).sI _ _ _).sI _ _ _) (by omega) ta (by omega)
          have eR := stpN_s (k := n - i - 1) (w := w) (sd := sd) (by omega)
          rw [show n - i - 1 + 1 = n - i by omega] at eR
          rw [eR] at es
          have e1w : w.1.1 = w0.1.1 ∧ w.1.2 = w0.1.2 := by rw [e1']; exact ⟨rfl, rfl⟩
          refine k (_, _) _ ⟨wkD w sd, (dyR w.1.1 w.1.2 w.2.1.1 w.2.1.2 sd).1, g5, wb5, e1', ?_, ?_, ⟨mI_eq, ?_⟩, ⟨?_, ?_⟩, ?_, ?_, ?_, ?_, ?_, rfl, ?_⟩
          · rw [mI_ne (Or.inr (by omega)), mI_ne (Or.inr (by omega)), mI_ne (Or.inr (by omega)), mI_ne (Or.inr (by omega)), mI_ne (Or.inr (by omega)), f1.e13 hN, e1w.1, e1w.2]
          · rw [mI_ne (Or.inr (by omega)), mI_ne (Or.inr (by omega)), mI_ne (Or.inr (by omega)), mI_ne (Or.inr (by omega)), mI_ne (Or.inr (by omega)), r1 14 (by omega) (by omega), e14]
          · show w.2.1.1 - 1 ≤ w0.1.1 0
            have := e15.2
            omega
          · rw [mI_ne (Or.inr (by omega)), mI_ne (Or.inr (by omega)), mI_ne (Or.inr (by omega)), mI_ne (Or.inr (by omega)), mI_eq]
            show _ = Int32.ofNat (dyR w.1.1 w.1.2 w.2.1.1 w.2.1.2 sd).2.2.1
            rw [e1w.1, e1w.2]
          · show (dyR w.1.1 w.1.2 w.2.1.1 w.2.1.2 sd).2.2.1 < 5 ^ w0.1.1 4
            rw [e1w.1, e1w.2]
            exact lt
          · rw [mI_ne (Or.inr (by omega)), mI_ne (Or.inr (by omega)), mI_ne (Or.inr (by omega)), mI_ne (Or.inr (by omega)), mI_ne (Or.inr (by omega)), r1 17 (by omega) (by omega), e17]
          · show w.2.2.1 + dayC w.1.1 w.1.2 w.2.1.1 w.2.1.2 sd = w0.2.2.1 + (vc + dayC w0.1.1 w0.1.2 w.2.1.1 w.2.1.2 sd)
            rw [ec, e1w.1, e1w.2]
            grind -lia
          · rw [mI_ne (Or.inr (by omega)), mI_ne (Or.inr (by omega)), mI_ne (Or.inr (by omega)), mI_eq]
            show _ = w.2.2.2.1 + dayB w.1.1 w.1.2 w.2.1.1 w.2.1.2 sd
            rw [e1w.1, e1w.2]
          · rw [mI_ne (Or.inr (by omega)), mI_ne (Or.inr (by omega)), mI_eq]
            show _ = w.2.2.2.2.1 + Int32.ofNat (pcs (dyL w.1.1 w.1.2 w.2.1.1 w.2.1.2 sd))
            rw [e1w.1, e1w.2]
          · rw [mI_ne (Or.inr (by omega)), mI_eq]
            show _ = w.2.2.2.2.2 + (dyR w.1.1 w.1.2 w.2.1.1 w.2.1.2 sd).2.2.2
            rw [e1w.1, e1w.2]
          · rw [es, show n - (i + 1) = n - i - 1 by omega]
            simp only
            rw [e1w.1, e1w.2]
            congr 1
            grind -lia
      · obtain ⟨vc, vi⟩ := v
        obtain ⟨w, sd, gN, wb, e1', e13, e14, e15, e16, e17, ec, e18, e19, e20, ev, es⟩ := hI
        simp only at ev ec es
        subst ev
        show F_X3_step_b50 Q a (Int32.ofNat n) (g + 1) vc (Int32.ofNat n) N
        rw [Nat.sub_self, stpN_0] at es
        refine leT (Nat.le_refl _) (by omega) (fin vc w sd N ?_ gN e1' e13 e14 e15 e16 e17 ec e18 e19 e20)
        rw [es]
        simp only
        have : vc + 0 = vc := by grind -lia
        rw [this]
      · simp only [Nat.sub_zero]
        have : (0 : Int32) + (stpN n w0 (kSd (aNow A))).1 = (stpN n w0 (kSd (aNow A))).1 := by grind -lia
        rw [this]
  · unfold spStep
    cases e2 : dec 7 x1 with
    | none => rfl
    | some n => simp only; rw [if_pos (e1 n e2)]
theorem m_weeks (R : MRel M a r ρ A) {x1 x2 x3 : Int32} {Q : Int32 → gM → Prop} (q : Km (spWeeks A x1 x2 x3) a ρ M Q) : F_X3_weeks M a x1 x2 x3 Q := by
  have h := R.1
  have t0 := h.1.2
  refine m_rc h (m_gH R (fun x e1 => bF n10 ?_) (fun e1 => bT rfl (m_bad R (by unfold spWeeks; rw [e1]) q)))
  have d1 := dec_some e1
  obtain ⟨g1, g2, g3⟩ := R.hs d1.1
  have hk := g2.2.2.2.2.1
  have hd0 := g2.1
  refine m_inD (n := 7) (by omega) (fun t e4 => bF n10 ?_) (fun e4 => bT rfl (m_bad R ?_ q))
  · have d4 := dec_some e4
    refine m_in1 (n := 50) (by omega) (fun n e3 hn => bT' n10 ?_) (fun e3 => bF' rfl (m_bad R ?_ q))
    · have d3 := dec_some e3
      have sp : spWeeks A x1 x2 x3 = match gR_ A x2 with | .inl e => rj A e | .inr u => ((wksN (aP A x) u (kSd (aNow A)) n).1, sNow A (sSd (aNow A) (wksN (aP A x) u (kSd (aNow A)) n).2)) := by
        unfold spWeeks
        rw [e1, e3]
        exact if_neg (by omega)
      refine m_rc h (m_noRule R e4 (fun u nn eu ev => bT rfl ?_) (fun er N eu hr R' F' => bF (by rcases hr with rfl | rfl <;> decide) ?_))
      · obtain ⟨hu, hwu⟩ := R.fR d4.1 ev
        rw [eu] at sp
        rw [sp] at q
        rw [d1.2.1, d4.2.1, d3.2.1]
        refine m_rc h (m_findBest (mu := fun _ => false) h (by omega) g1 g2 (mu0 R.mu) (fun N0 f0 wy wb0 => ?_))
        have R0 := R.frw f0.w
        have h0 := R0.1
        have sd0 : mI N0 a 13 = kSd (aNow A) := R0.2.2.2.2.2.2.1.2.2.2.1
        have lay13 : ∀ {v : Int32} {N : gM}, Fr ρ 1000 (sI N0 a 13 v) N → LayM N a r ρ 1000 ∧ HsM N r x (aP A x) ∧ RuM N r t u := fun f => ⟨f.lay (h0.sI _ _ _), f.hs (h0.sI _ _ _) (by omega) ((R0.hs d1.1).1.s13 h0 (by omega)), f.ru (h0.sI _ _ _) (by omega) ((R0.fR d4.1 ev).1.s13 h0 (by omega))⟩
        refine loopV (fun g v N => F_X3_weeks_b65 Q a (Int32.ofNat x) (Int32.ofNat t) (Int32.ofNat n) g v.1 v.2 N) (fun k => ((wksN (aP A x) u (kSd (aNow A)) k).1, Int32.ofNat k)) (fun k N => Fr ρ 1000 (sI N0 a 13 (wksN (aP A x) u (kSd (aNow A)) k).2) N ∧ Bst N r (aP A x) (fun _ => false) (aP A x 0 + 1)) n (fun k hk' g N hI kk => ?_) (fun g N hI => ?_) N0 ⟨?_, wb0⟩
        · obtain ⟨f, wb⟩ := hI
          obtain ⟨hN, hPN, huN⟩ := lay13 f
          show F_X3_weeks_b65 Q a (Int32.ofNat x) (Int32.ofNat t) (Int32.ofNat n) (g + 1) (wksN (aP A x) u (kSd (aNow A)) k).1 (Int32.ofNat k) N
          refine leF hk' (by omega) (m_g2 hN rfl (m_aN hN rfl (by omega) (by omega) (m_bI (i := 0) hN rfl (by omega) (by omega) (by omega) ?_)))
          rw [hPN 0 (by omega)]
          refine loopR (fun g' v N => F_X3_weeks_b84 Q (F_X3_weeks_b65 Q a (Int32.ofNat x) (Int32.ofNat t) (Int32.ofNat n) g) a (Int32.ofNat x) (Int32.ofNat t) (Int32.ofNat n) (Int32.ofNat k) g' v.1 v.2.1 v.2.2 N) (fun i v N => ∃ d s sd, d + i = aP A x 0 ∧ v.2.2 = Int32.ofNat d ∧ v.2.1 = Int32.ofNat s ∧ s < 5 ^ aP A x 4 ∧ Fr ρ 1000 (sI N0 a 13 sd) N ∧ Bst N r (aP A x) (fun _ => false) (aP A x 0 + 1) ∧ v.1 + (wkN (aP A x) u d s sd).1 = (wksN (aP A x) u (kSd (aNow A)) k).1 + (wkN (aP A x) u (aP A x 0) 0 (wksN (aP A x) u (kSd (aNow A)) k).2).1 ∧ (wkN (aP A x) u d s sd).2 = (wkN (aP A x) u (aP A x 0) 0 (wksN (aP A x) u (kSd (aNow A)) k).2).2) (aP A x 0) (fun i hi g' v N hI kk' => ?_) (fun g' v N hI => ?_) ((wksN (aP A x) u (kSd (aNow A)) k).1, (0 : Int32), Int32.ofNat (aP A x 0)) N ⟨aP A x 0, 0, _, rfl, rfl, rfl, p5_pos _, f, wb, rfl, rfl⟩
          · obtain ⟨va, vb, vc⟩ := v
            obtain ⟨d, s, sd, hdi, ev1, ev2, hs, f, wb, es1, es2⟩ := hI
            simp only at ev1 ev2 es1
            subst ev1 ev2
            obtain ⟨hN, hPN, huN⟩ := lay13 f
            show F_X3_weeks_b84 Q (F_X3_weeks_b65 Q a (Int32.ofNat x) (Int32.ofNat t) (Int32.ofNat n) g) a (Int32.ofNat x) (Int32.ofNat t) (Int32.ofNat n) (Int32.ofNat k) (g' + 1) va (Int32.ofNat s) (Int32.ofNat d) N
            obtain ⟨d, rfl⟩ : ∃ z, d = z + 1 := ⟨d - 1, by omega⟩
            refine leF (b := 0) (by omega) (by omega) (m_rc hN (m_day hN (by omega) hPN g2 (by omega) huN hwu wb ⟨by omega, by omega⟩ hs (f.e13 h0) (fun N1 f1 wb1 b42 b43 b44 b45 => ?_)))
            have h1L := f1.lay (hN.sI a 13 _)
            refine m_gI h1L ?_
            rw [b45, i32_dec]
            have lt := dyR_lt g2 (u := u) (d := d + 1) (sd := sd) hs
            have ew : wkN (aP A x) u (d + 1) s sd = (dayC (aP A x) u (d + 1) s sd + (wkN (aP A x) u d (dyR (aP A x) u (d + 1) s sd).2.2.1 (dyR (aP A x) u (d + 1) s sd).1).1, (wkN (aP A x) u d (dyR (aP A x) u (d + 1) s sd).2.2.1 (dyR (aP A x) u (d + 1) s sd).1).2) := rfl
            rw [ew] at es1 es2
            refine kk' (_, _, _) N1 ⟨d, _, _, by omega, rfl, rfl, lt, (f.s13 h0).tr f1, wb1, ?_, es2⟩
            rw [← es1]
            show va + dayC (aP A x) u (d + 1) s sd + _ = va + (dayC (aP A x) u (d + 1) s sd + _)
            grind -lia
          · obtain ⟨va, vb, vc⟩ := v
            obtain ⟨d, s, sd, hdi, ev1, ev2, hs, f, wb, es1, es2⟩ := hI
            simp only at ev1 ev2 es1
            subst ev1 ev2
            have hd : d = 0 := by omega
            subst hd
            show F_X3_weeks_b84 Q (F_X3_weeks_b65 Q a (Int32.ofNat x) (Int32.ofNat t) (Int32.ofNat n) g) a (Int32.ofNat x) (Int32.ofNat t) (Int32.ofNat n) (Int32.ofNat k) (g' + 1) va (Int32.ofNat s) (Int32.ofNat 0) N
            refine leT (b := 0) (by omega) (by omega) ?_
            have e0 : wkN (aP A x) u 0 s sd = (0, sd) := rfl
            rw [e0] at es1 es2
            simp only at es1 es2
            have e9 : va = (wksN (aP A x) u (kSd (aNow A)) (k + 1)).1 := by
              show va = (wksN (aP A x) u (kSd (aNow A)) k).1 + (wkN (aP A x) u (aP A x 0) 0 (wksN (aP A x) u (kSd (aNow A)) k).2).1
              rw [← es1]
              grind -lia
            have e10 : sd = (wksN (aP A x) u (kSd (aNow A)) (k + 1)).2 := es2
            rw [i32_lit 1, i32_add, e9]
            rw [e10] at f
            exact kk N ⟨f, wb⟩
        · obtain ⟨f, wb⟩ := hI
          refine leT (Nat.le_refl _) (by omega) ?_
          obtain ⟨R1, F1⟩ := R0.sd (wksN (aP A x) u (kSd (aNow A)) n).2
          exact q N r ρ (R1.frw f.w) (((f0.w.fmm h).tr F1).tr (f.w.fmm R1.1))
        · show Fr ρ 1000 (sI N0 a 13 (kSd (aNow A))) N0
          refine ⟨⟨rfl, rfl, rfl⟩, fun b i z => ⟨?_, rfl⟩⟩
          by_cases c : b = a ∧ i = 13
          · rw [c.1, c.2, mI_eq, sd0]
          · have c' : b ≠ a ∨ i ≠ 13 := by
              by_cases e : b = a
              · exact Or.inr (fun z => c ⟨e, z⟩)
              · exact Or.inl e
            rw [mI_ne c']
      · rw [sp, eu] at q
        exact q N r ρ R' F'
    · unfold spWeeks
      rw [e1]
      cases e5 : dec 51 x3 with
      | none => rfl
      | some n => exact if_pos (e3 n e5)
  · unfold spWeeks
    rw [e1]
    cases e5 : dec 51 x3 with
    | none => rfl
    | some n =>
      simp only
      split
      · rfl
      · unfold gR_
        rw [e4]
end MOP9
