/-! the model's operations: chances, shapes -/
set_option maxRecDepth 100000
section MOP6
variable {M : gM} {a : Nat} {r ρ : Nat → Nat} {A : Ab}
theorem m_chance (R : MRel M a r ρ A) {x1 x2 x3 x4 : Int32} {Q : Int64 → gM → Prop} (q : Km (spChance A x1 x2 x3 x4) a ρ M Q) : F_X3_chance M a x1 x2 x3 x4 Q := by
  have h := R.1
  refine m_rc h (m_gL R (fun x d e => bF n10 ?_) (fun e => bT rfl (m_badJ R (by unfold spChance; rw [gLS_L e]) q)))
  refine m_rc h (m_gS R (fun x' s e' => bF n10 ?_) (fun e' => bT rfl (m_badJ R (by unfold spChance; rw [gLS_S e']) q)))
  obtain ⟨es, rfl⟩ := gLS_ok e e'
  obtain ⟨f1, f2, f3, f4, f5, f6, f7, f8⟩ := R.fL e
  obtain ⟨-, -, g3, g4, g5, -, -⟩ := R.fS e'
  have sp : spChance A x1 x2 x3 x4 = match gR_ A x4 with | .inl e => rjJ A e | .inr u => (Int64.ofNat (chN (aP A x') u (aP A x' 0 - d) s), A) := by unfold spChance; rw [es]; rfl
  refine m_inD (n := 7) (by omega) (fun t e4 => bT' n10 ?_) (fun e4 => bF' rfl (m_badJ R (by rw [sp]; unfold gR_; rw [e4]) q))
  have d4 := dec_some e4
  refine m_rc h (m_noRule R e4 (fun u n eu ev => bT rfl ?_) (fun er N eu hr R' F' => bF (by rcases hr with rfl | rfl <;> decide) ?_))
  · obtain ⟨hu, hwu⟩ := R.fR d4.1 ev
    rw [f1, f3, g3, d4.2.1]
    refine m_rc h (m_findChances h (by omega) f7 f8 (by omega) hu hwu R.mu (fun N f wy wb ch => ?_))
    have hN := f.lay h
    refine m_g2 hN rfl (m_aN hN rfl (by omega) (by omega) (m_bJ hN rfl (by omega) (by omega) (by omega) ?_))
    rw [ch d f4 s g5]
    exact m_end R f.w (by rw [sp, eu]) q
  · rw [sp, eu] at q
    exact q N r ρ R' F'
theorem m_reach (R : MRel M a r ρ A) {x1 x2 x3 : Int32} {Q : Int32 → gM → Prop} (q : Km (spReach A x1 x2 x3) a ρ M Q) : F_X3_reach M a x1 x2 x3 Q := by
  have h := R.1
  refine m_rc h (m_gL R (fun x d e => bF n10 ?_) (fun e => bT rfl (m_bad R (by unfold spReach; rw [e]) q)))
  obtain ⟨f1, f2, f3, f4, f5, f6, f7, f8⟩ := R.fL e
  have hk := f8.2.2.2.2.1
  have h5 := p5_le hk.2
  have sp : spReach A x1 x2 x3 = match gR_ A x3 with | .inl e => rj A e | .inr u => (Int32.ofNat (rcN (aP A x) u d (5 ^ aP A x 4)), A) := by unfold spReach; rw [e]; rfl
  refine m_inD (n := 7) (by omega) (fun t e4 => bT' n10 ?_) (fun e4 => bF' rfl (m_bad R (by rw [sp]; unfold gR_; rw [e4]) q))
  have d4 := dec_some e4
  refine m_rc h (m_noRule R e4 (fun u n eu ev => bT rfl ?_) (fun er N eu hr R' F' => bF (by rcases hr with rfl | rfl <;> decide) ?_))
  · obtain ⟨hu, hwu⟩ := R.fR d4.1 ev
    rw [f1, f3, d4.2.1]
    refine m_rc h (m_findChances h (by omega) f7 f8 (by omega) hu hwu R.mu (fun N f wy wb ch => ?_))
    have hN := f.lay h
    have hPN := f.hs h (by omega) f7
    refine loopC (fun g v N => F_X3_reach_b55 Q a (Int32.ofNat x) (Int32.ofNat d) g v.1 v.2 N) (fun s => (Int32.ofNat (rcN (aP A x) u d s), Int32.ofNat s)) N (5 ^ aP A x 4) (fun s hs g k => ?_) (fun g => ?_)
    · show F_X3_reach_b55 Q a (Int32.ofNat x) (Int32.ofNat d) (g + 1) (Int32.ofNat (rcN (aP A x) u d s)) (Int32.ofNat s) N
      have hch := chN_lt f8 (u := u) (j := aP A x 0 - d) (t := s) (by omega) hs
      have p24 : (4 : Nat) ^ 24 = 281474976710656 := by decide
      refine m_rc hN (m_states hN (by omega) hPN hk.2 (leF hs (by omega) (m_g2 hN rfl (m_aN hN rfl (by omega) (by omega) (m_bJ hN rfl (by omega) (by omega) (by omega) ?_)))))
      rw [ch d f4 s (by omega), i64_lit 0, i64_le (by omega) (by omega)]
      have go : ∀ y, y = (if 0 < chN (aP A x) u (aP A x 0 - d) s then 1 else 0) → F_X3_reach_b86 Q (F_X3_reach_b55 Q a (Int32.ofNat x) (Int32.ofNat d) g) a (Int32.ofNat x) (Int32.ofNat d) (Int32.ofNat s) (Int32.ofNat (rcN (aP A x) u d s)) (Int32.ofNat y) N := by
        intro y hy
        unfold F_X3_reach_b86
        rw [i32_lit 1, i32_add, i32_add, hy]
        exact k
      exact ⟨fun c => go 0 (by rw [if_neg (by omega)]), fun c => go 1 (by rw [if_pos (by omega)])⟩
    · exact m_rc hN (m_states hN (by omega) hPN hk.2 (leT (Nat.le_refl _) (by omega) (m_end R f.w (by rw [sp, eu]) q)))
  · rw [sp, eu] at q
    exact q N r ρ R' F'
theorem m_held (R : MRel M a r ρ A) {x1 x2 x3 : Int32} {Q : Int64 → gM → Prop} (q : Km (spHeld A x1 x2 x3) a ρ M Q) : F_X3_held M a x1 x2 x3 Q := by
  have h := R.1
  refine m_rc h (m_gH R (fun x e1 => bF n10 ?_) (fun e1 => bT rfl (m_badJ R (by unfold spHeld; rw [e1]) q)))
  have d1 := dec_some e1
  obtain ⟨g1, g2, g3⟩ := R.hs d1.1
  have hk := g2.2.2.2.2.1.2
  rw [d1.2.1]
  refine m_rc h (m_sorts h (by omega) g1 (m_inL (by omega) (fun i e2 => bF n10 ?_) (fun e2 => bT rfl (m_badJ R (by unfold spHeld; rw [e1]; simp only; rw [e2]) q))))
  have d2 := dec_some e2
  have sp : spHeld A x1 x2 x3 = match gR_ A x3 with | .inl e => rjJ A e | .inr u => (mvT (aP A x) u (some i) (aP A x 0), A) := by unfold spHeld; rw [e1]; simp only; rw [e2]; rfl
  refine m_inD (n := 7) (by omega) (fun t e4 => bT' n10 ?_) (fun e4 => bF' rfl (m_badJ R (by rw [sp]; unfold gR_; rw [e4]) q))
  have d4 := dec_some e4
  refine m_rc h (m_noRule R e4 (fun u n eu ev => bT rfl ?_) (fun er N eu hr R' F' => bF (by rcases hr with rfl | rfl <;> decide) ?_))
  · obtain ⟨hu, hwu⟩ := R.fR d4.1 ev
    rw [d2.2.1, d4.2.1]
    exact m_rc h (m_meanOf (so := some i) h (by omega) g1 g2 (by omega) hu hwu R.mu (fun j hj => by cases hj; omega) (fun N f => m_end R f.w (by rw [sp, eu]) q))
  · rw [sp, eu] at q
    exact q N r ρ R' F'
theorem m_boxes (R : MRel M a r ρ A) {x1 x2 : Int32} {Q : Int64 → gM → Prop} (q : Km (spBoxes A x1 x2) a ρ M Q) : F_X3_boxes M a x1 x2 Q := by
  have h := R.1
  refine m_rc h (m_gH R (fun x e1 => bF n10 ?_) (fun e1 => bT rfl (m_badJ R (by unfold spBoxes; rw [e1]) q)))
  have d1 := dec_some e1
  obtain ⟨g1, g2, g3⟩ := R.hs d1.1
  rw [d1.2.1]
  have sp : spBoxes A x1 x2 = match gR_ A x2 with | .inl e => rjJ A e | .inr u => (mvT (aP A x) u none (aP A x 0), A) := by unfold spBoxes; rw [e1]; rfl
  refine m_inD (n := 7) (by omega) (fun t e4 => bT' n10 ?_) (fun e4 => bF' rfl (m_badJ R (by rw [sp]; unfold gR_; rw [e4]) q))
  have d4 := dec_some e4
  refine m_rc h (m_noRule R e4 (fun u n eu ev => bT rfl ?_) (fun er N eu hr R' F' => bF (by rcases hr with rfl | rfl <;> decide) ?_))
  · obtain ⟨hu, hwu⟩ := R.fR d4.1 ev
    rw [d4.2.1]
    exact m_rc h (m_meanOf (so := none) h (by omega) g1 g2 (by omega) hu hwu R.mu (fun j hj => by cases hj) (fun N f => m_end R f.w (by rw [sp, eu]) q))
  · rw [sp, eu] at q
    exact q N r ρ R' F'
theorem m_plain (R : MRel M a r ρ A) {x1 : Int32} {Q : Int32 → gM → Prop} (q : Km (spPlain A x1) a ρ M Q) : F_X3_plain M a x1 Q := by
  have h := R.1
  refine m_rc h (m_gH R (fun x e1 => bF n10 ?_) (fun e1 => bT rfl (m_bad R (by unfold spPlain; rw [e1]) q)))
  have d1 := dec_some e1
  obtain ⟨g1, g2, g3⟩ := R.hs d1.1
  rw [d1.2.1]
  exact m_rc h (m_leastOf (k := 1) (f := 0) (n := 99) h (by omega) (by omega) g1 g2 (by omega) (fun N f => m_end R f (by unfold spPlain; rw [e1]) q))
theorem m_every (R : MRel M a r ρ A) {x1 : Int32} {Q : Int32 → gM → Prop} (q : Km (spEvery A x1) a ρ M Q) : F_X3_every M a x1 Q := by
  have h := R.1
  refine m_rc h (m_gH R (fun x e1 => bF n10 ?_) (fun e1 => bT rfl (m_bad R (by unfold spEvery; rw [e1]) q)))
  have d1 := dec_some e1
  obtain ⟨g1, g2, g3⟩ := R.hs d1.1
  rw [d1.2.1]
  exact m_rc h (m_leastOf (k := 2) (f := 1) (n := 5) h (by omega) (by omega) g1 g2 (by omega) (fun N f => m_end R f (by unfold spEvery; rw [e1]) q))
theorem m_promise (R : MRel M a r ρ A) {x1 x2 : Int32} {Q : Int64 → gM → Prop} (q : Km (spPromise A x1 x2) a ρ M Q) : F_X3_promise M a x1 x2 Q := by
  have h := R.1
  have t0 := h.1.2
  refine m_rc h (m_gL R (fun x d e => bF n10 ?_) (fun e => bT rfl (m_badJ R (by unfold spPromise; rw [gL_0 e]) q)))
  obtain ⟨f1, f2, f3, f4, f5, f6, f7, f8⟩ := R.fL e
  rw [f1, f3]
  refine eqS' (b := 0) (by omega) (by omega) (fun c => ?_) (fun c => m_badJ R (by unfold spPromise; rw [gL_1 e, if_neg (by omega)]) q)
  have e2 : gL A 1 x1 x2 = some (x, d) := by rw [gL_1 e, if_pos (by omega)]
  have n39 : ∀ N N', Fr ρ 1000 N N' → LayM N a r ρ 1000 → mI N' a 39 = mI N a 39 := fun N N' f hN => (f.2 a 39 (by
    rintro (⟨k, hk, e⟩ | ⟨e, z⟩)
    · omega
    · omega)).1
  refine m_pI h (m_rc (h.sI _ _ _) (m_findBest (mu := fun z => z == d) (h.sI _ _ _) (by omega) (f7.s13 h (by omega)) f8 (fun z hz => ?_) (fun N f wy wb => ?_)))
  · rw [mI_eq]
    refine propext ⟨fun y => ?_, fun y => ?_⟩
    · rw [beq_iff_eq] at y
      rw [y]
    · rw [i32_eq (by omega) (by omega)] at y
      rw [y]
      exact beq_self_eq_true d
  · have hN := f.lay (h.sI _ _ _)
    have hPN := f.hs (h.sI _ _ _) (by omega) (f7.s13 h (by omega))
    refine m_g2 hN rfl (m_g2 hN rfl (m_aN hN rfl (by omega) (by omega) (m_bI (i := 0) hN rfl (by omega) (by omega) (by omega) ?_)))
    rw [hPN 0 (by omega)]
    refine m_aN hN rfl (by omega) (by omega) (m_bJ (i := 0) hN rfl (by omega) (by omega) (by omega) ?_)
    rw [(wb (aP A x 0) (by omega) 0 (p5_pos _)).1]
    refine m_pI hN (m_rc (hN.sI _ _ _) (m_findBest (mu := fun _ => false) (hN.sI _ _ _) (by omega) (hPN.s13 hN (by omega)) f8 (mu0 mI_eq) (fun N2 f2 wy2 wb2 => ?_)))
    have hN2 := f2.lay (hN.sI _ _ _)
    have hPN2 := f2.hs (hN.sI _ _ _) (by omega) (hPN.s13 hN (by omega))
    refine m_g2 hN2 rfl (m_g2 hN2 rfl (m_aN hN2 rfl (by omega) (by omega) (m_bI (i := 0) hN2 rfl (by omega) (by omega) (by omega) ?_)))
    rw [hPN2 0 (by omega)]
    refine m_aN hN2 rfl (by omega) (by omega) (m_bJ (i := 0) hN2 rfl (by omega) (by omega) (by omega) ?_)
    rw [(wb2 (aP A x 0) (by omega) 0 (p5_pos _)).1]
    -- must is as it was: in all nothing but scratch has changed
    have fr : Fr ρ 1000 M N2 := by
      refine ⟨⟨f2.1.1.trans f.1.1, f2.1.2.1.trans f.1.2.1, f2.1.2.2.trans f.1.2.2⟩, fun b i z => ⟨?_, (f2.2 b i z).2.trans (f.2 b i z).2⟩⟩
      rw [(f2.2 b i z).1]
      by_cases c2 : b = a ∧ i = 39
      · rw [c2.1, c2.2, mI_eq, R.mu]
      · have c3 : b ≠ a ∨ i ≠ 39 := by
          by_cases c4 : b = a
          · exact Or.inr (fun y => c2 ⟨c4, y⟩)
          · exact Or.inl c4
        rw [mI_ne c3, (f.2 b i z).1, mI_ne c3]
    exact m_end R fr.w (by unfold spPromise; rw [e2]; rfl) q
theorem m_shape (R : MRel M a r ρ A) {x1 x2 : Int32} {Q : Int32 → gM → Prop} (q : Km (spShape A x1 x2) a ρ M Q) : F_X3_shape M a x1 x2 Q := by
  have h := R.1
  refine m_rc h (m_gL R (fun x d e => bF n10 ?_) (fun e => bT rfl (m_bad R (by unfold spShape; rw [gL_0 e]) q)))
  obtain ⟨f1, f2, f3, f4, f5, f6, f7, f8⟩ := R.fL e
  rw [f1, f3]
  refine eqS' (b := 0) (by omega) (by omega) (fun c => ?_) (fun c => m_bad R (by unfold spShape; rw [gL_1 e, if_neg (by omega)]) q)
  have e2 : gL A 1 x1 x2 = some (x, d) := by rw [gL_1 e, if_pos (by omega)]
  have es : spShape A x1 x2 = (shpV (aP A x) d, A) := by unfold spShape; rw [e2]
  have hM := rmM_le f8 (d := d) (5 ^ aP A x 4)
  refine m_rc h (m_findRooms h (by omega) f7 f8 R.mu f4 (fun N f wb e40 e41 => ?_))
  have hN := f.lay h
  unfold shpV at es
  cases er : rmL (aP A x) d (5 ^ aP A x 4) with
  | none =>
    rw [er] at es
    exact bT rfl (m_end R f.w es q)
  | some m =>
    have hm := rmL_le f8 er
    rw [er] at es e40
    simp only at es
    refine bF n10 (m_gI hN (m_gI hN ?_))
    rw [e40, e41]
    refine leS (by omega) (by omega) (fun c2 => m_end R f.w (by rw [es, if_neg (by omega)]) q) (fun c2 => m_gI hN ?_)
    rw [e41, i32_lit 1, i32_add]
    exact m_end R f.w (by rw [es, if_pos c2]) q
theorem m_odd (R : MRel M a r ρ A) {x1 x2 : Int32} {Q : Int32 → gM → Prop} (q : Km (spOdd A x1 x2) a ρ M Q) : F_X3_odd M a x1 x2 Q := by
  have h := R.1
  refine m_rc h (m_gL R (fun x d e => bF n10 ?_) (fun e => bT rfl (m_bad R (by unfold spOdd; rw [gL_0 e]) q)))
  obtain ⟨f1, f2, f3, f4, f5, f6, f7, f8⟩ := R.fL e
  rw [f1, f3]
  refine eqS' (b := 0) (by omega) (by omega) (fun c => ?_) (fun c => m_bad R (by unfold spOdd; rw [gL_1 e, if_neg (by omega)]) q)
  have e2 : gL A 1 x1 x2 = some (x, d) := by rw [gL_1 e, if_pos (by omega)]
  have es : spOdd A x1 x2 = (oddV (aP A x) d, A) := by unfold spOdd; rw [e2]
  have hk := f8.2.2.2.2.1
  have h5 := p5_le hk.2
  refine m_rc h (m_findRooms h (by omega) f7 f8 R.mu f4 (fun N f wb e40 e41 => ?_))
  have hN := f.lay h
  have hPN := f.hs h (by omega) f7
  unfold oddV at es
  cases er : rmL (aP A x) d (5 ^ aP A x 4) with
  | none =>
    rw [er] at es
    exact bF' rfl (m_end R f.w es q)
  | some m =>
    have hm := rmL_le f8 er
    rw [er] at es e40
    simp only at es
    refine bT' n10 ?_
    refine loopV (fun g v N => F_X3_odd_b33 Q a (Int32.ofNat x) (Int32.ofNat d) g v N) (fun s => Int32.ofNat s) (fun i N' => N' = N ∧ odN (aP A x) d m i = none) (5 ^ aP A x 4) (fun i hi g N' hI k => ?_) (fun g N' hI => ?_) N ⟨rfl, rfl⟩
    · obtain ⟨hM, ho⟩ := hI
      subst hM
      have hL := LT_le (aP A x) (fun _ => false) d i
      have hs := sm0_lt f8 i
      have eo : odN (aP A x) d m (i + 1) = if LT (aP A x) (fun _ => false) d i = 0 ∧ m ≤ sm (aP A x) 0 i then some i else none := by
        show (match odN (aP A x) d m i with | some s => some s | none => _) = _
        rw [ho]
      have go : ¬ (LT (aP A x) (fun _ => false) d i = 0 ∧ m ≤ sm (aP A x) 0 i) → F_X3_odd_b69 Q (F_X3_odd_b33 Q a (Int32.ofNat x) (Int32.ofNat d) g) a (Int32.ofNat x) (Int32.ofNat d) (Int32.ofNat i) N' := fun c2 => by
        unfold F_X3_odd_b69
        rw [i32_lit 1, i32_add]
        exact k N' ⟨rfl, by rw [eo, if_neg c2]⟩
      refine m_rc hN (m_states hN (by omega) hPN hk.2 (leF hi (by omega) (m_g2 hN rfl (m_aN hN rfl (by omega) (by omega) (m_bI hN rfl (by omega) (by omega) (by omega) ?_)))))
      rw [(wb d (by omega) i hi).2]
      refine eqS' (b := 0) (by omega) (by omega) (fun c2 => go (fun z => c2 z.1)) (fun c2 => m_rc hN (m_sum (w := 0) hN (by omega) hPN hk.2 (by omega) (by omega) (m_gI hN ?_)))
      rw [e40]
      refine ltS (by omega) (by omega) (fun c3 => go (fun z => by omega)) (fun c3 => m_end R f.w ?_ q)
      have e9 := odN_some (k := 5 ^ aP A x 4 - (i + 1)) (by rw [eo, if_pos ⟨c2, c3⟩] : odN (aP A x) d m (i + 1) = some i)
      rw [show i + 1 + (5 ^ aP A x 4 - (i + 1)) = 5 ^ aP A x 4 by omega] at e9
      rw [es, e9]
      rfl
    · obtain ⟨hM, ho⟩ := hI
      subst hM
      exact m_rc hN (m_states hN (by omega) hPN hk.2 (leT (Nat.le_refl _) (by omega) (m_end R f.w (by rw [es, ho]; rfl) q)))
theorem i64_of_rng {x : Int64} {n : Nat} (h0 : 0 ≤ x.toInt) (hn : n < 2147483648) (h1 : x.toInt ≤ n) : x = Int64.ofNat x.toInt.toNat ∧ x.toInt.toNat ≤ n := by
  refine ⟨Int64.toInt_inj.mp ?_, by omega⟩
  rw [i64_toInt (by omega)]
  omega
theorem m_judge (R : MRel M a r ρ A) {x1 x2 x3 : Int32} {Q : Int32 → gM → Prop} (q : Km (spJudge A x1 x2 x3) a ρ M Q) : F_X3_judge M a x1 x2 x3 Q := by
  have h := R.1
  refine m_rc h (m_gS R (fun x s e => bF n10 ?_) (fun e => bT rfl (m_bad R (by unfold spJudge; rw [e]) q)))
  obtain ⟨f1, f2, f3, f4, f5, f6, f7⟩ := R.fS e
  have hk := f7.2.2.2.2.1
  refine m_inD (n := 7) (by omega) (fun t e4 => bT' n10 ?_) (fun e4 => bF' rfl (m_bad R (by unfold spJudge; rw [e, e4]) q))
  have d4 := dec_some e4
  have hsh := R.2.2.1 t d4.1
  rw [f1, f3, d4.2.1]
  refine m_g1 h rfl (m_aI h rfl d4.1 (by omega) ?_)
  cases ev : aSh A t with
  | none =>
    rw [ev] at hsh
    have hsh : mI M (r 0) t = 0 := hsh
    rw [hsh]
    refine bT' (by decide) (m_g1 h rfl (m_aI h rfl d4.1 (by omega) ?_))
    rw [hsh]
    exact bF' rfl (m_rc h (m_rj (n := 4) R (by omega) (by unfold spJudge; rw [e, e4]; simp only; rw [ev]) q))
  | some w => cases w with
    | inr w =>
      rw [ev] at hsh
      have hsh : mI M (r 0) t = 2 := hsh.1
      rw [hsh]
      exact bF' rfl (m_rc h (m_rj (n := 3) R (by omega) (by unfold spJudge; rw [e, e4]; simp only; rw [ev]) q))
    | inl w =>
      obtain ⟨so, n, f⟩ := w
      rw [ev] at hsh
      obtain ⟨a1, a2, a3, a4, a5⟩ := hsh
      have es : spJudge A x1 x2 x3 = if n < aP A x 4 then rj A 2 else match jdN (aP A x) s f (aP A x 4) with | none => (1, A) | some r => (if aP A x 2 < r then 2 else 0, A) := by unfold spJudge; rw [e, e4]; simp only; rw [ev]; rfl
      rw [a1]
      refine bT' (by decide) (m_g1 h rfl (m_aI h rfl d4.1 (by omega) ?_))
      rw [a1]
      refine bT' (by decide) (m_g1 h rfl (m_aI h rfl d4.1 (by omega) (m_rc h (m_sorts h (by omega) f6 ?_))))
      rw [a3]
      refine leS (by omega) (by omega) (fun c => ?_) (fun c => m_bad R (by rw [es, if_pos c]) q)
      rw [if_neg (by omega)] at es
      refine loopR (fun g v N => F_X3_judge_b88 Q a (Int32.ofNat x) (Int32.ofNat s) (Int32.ofNat t) g v.1 v.2 N) (fun i v N => N = M ∧ v.2 = Int32.ofNat i ∧ ∃ m, m ≤ 36 * i ∧ v.1 = Int32.ofNat m ∧ jdN (aP A x) s f i = some m) (aP A x 4) (fun i hi g v N hI k => ?_) (fun g v N hI => ?_) ((0 : Int32), (0 : Int32)) M ⟨rfl, rfl, 0, by omega, rfl, rfl⟩
      · obtain ⟨hM, v2, m, hm, v1, ej⟩ := hI
        subst hM
        obtain ⟨va, vb⟩ := v
        simp only at v1 v2
        subst v1 v2
        have hdg := dg_le s i
        have h9 := (f7.2.2.2.2.2 i hi).1.2
        refine m_rc h (m_sorts h (by omega) f6 (leF hi (by omega) (m_g2 h rfl (m_aN h rfl d4.1 (by omega) (m_bJ h rfl d4.1 (by omega) (by omega) (m_ofState (by omega) (by omega) ?_))))))
        rw [a5 i (by omega)]
        have ejs : jdN (aP A x) s f (i + 1) = if 0 ≤ (f i).toInt ∧ (f i).toInt ≤ dg s i then some (m + (f i).toInt.toNat * aP A x (5 + 5 * i)) else none := by
          show (match jdN (aP A x) s f i with | none => none | some r => _) = _
          rw [ej]
        by_cases c2 : 0 ≤ (f i).toInt ∧ (f i).toInt ≤ dg s i
        · obtain ⟨ef, hf⟩ := i64_of_rng c2.1 (by omega) c2.2
          rw [if_pos c2] at ejs
          generalize (f i).toInt.toNat = z at ef hf ejs
          rw [ef]
          refine m_inJ (l := 0) (by omega) (by omega) (by omega) (fun _ _ => bT' n10 (m_g2 h rfl (m_aN h rfl d4.1 (by omega) (m_bJ h rfl d4.1 (by omega) (by omega) (m_rc h (m_numberOf (w := 0) h (by omega) f6 (by omega) (by omega) ?_)))))) (fun c3 => absurd ⟨Nat.zero_le _, hf⟩ c3)
          rw [a5 i (by omega), ef, i64_32 (by omega), i32_mul, i32_add, i32_lit 1, i32_add]
          have hz : z * aP A x (5 + 5 * i) ≤ 4 * 9 := Nat.mul_le_mul (by omega) h9
          exact k (_, _) N ⟨rfl, rfl, m + z * aP A x (5 + 5 * i), by omega, rfl, ejs⟩
        · rw [if_neg c2] at ejs
          have eN : ∀ j, jdN (aP A x) s f (i + 1 + j) = none := by
            intro j
            induction j with
            | zero => exact ejs
            | succ j ih =>
              show (match jdN (aP A x) s f (i + 1 + j) with | none => none | some r => _) = _
              rw [ih]
          have e9 := eN (aP A x 4 - (i + 1))
          rw [show i + 1 + (aP A x 4 - (i + 1)) = aP A x 4 by omega] at e9
          have fin : Q 1 N := m_end R FrW.rf (by rw [es, e9]) q
          refine ⟨fun _ => bF' rfl fin, fun c3 => ⟨fun _ => bF' rfl fin, fun c4 => ?_⟩⟩
          exfalso
          apply c2
          rw [Int64.lt_iff_toInt_lt] at c3 c4
          have z0 : (0 : Int64).toInt = 0 := by decide
          rw [i64_of (by omega), i64_toInt (by omega)] at c4
          omega
      · obtain ⟨hM, v2, m, hm, v1, ej⟩ := hI
        subst hM
        obtain ⟨va, vb⟩ := v
        simp only at v1 v2
        subst v1 v2
        rw [ej] at es
        simp only at es
        have hr := f7.2.2.1.2
        refine m_rc h (m_sorts h (by omega) f6 (leT (Nat.le_refl _) (by omega) (m_g2 h rfl (m_aN h rfl (by omega) (by omega) (m_bI (i := 2) h rfl (by omega) (by omega) (by omega) ?_)))))
        rw [f6 2 (by omega)]
        exact leS (by omega) (by omega) (fun c2 => m_end R FrW.rf (by rw [es, if_neg (by omega)]) q) (fun c2 => m_end R FrW.rf (by rw [es, if_pos c2]) q)
end MOP6
