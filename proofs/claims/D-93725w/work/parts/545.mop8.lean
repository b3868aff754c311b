/-! the model's operations: weeks -/
set_option maxRecDepth 100000
section MOP8
variable {S : Nat → Nat → Prop} {M M' : gM} {a : Nat} {r ρ : Nat → Nat} {A : Ab}
theorem m_begin (R : MRel M a r ρ A) {x1 x2 : Int32} {Q : Int32 → gM → Prop} (q : Km (spBegin A x1 x2) a ρ M Q) : F_X3_begin M a x1 x2 Q := by
  have h := R.1
  have t0 := h.1.2
  refine m_rc h (m_gH R (fun x e1 => bF n10 ?_) (fun e1 => bT rfl (m_bad R (by unfold spBegin; rw [e1]) q)))
  have d1 := dec_some e1
  obtain ⟨g1, g2, g3⟩ := R.hs d1.1
  have hk := g2.2.2.2.2.1
  have sp : spBegin A x1 x2 = match gR_ A x2 with | .inl e => rj A e | .inr u => (Int32.ofNat (aP A x 0), sNow A (sWk (aNow A) ((aP A x, u), (aP A x 0, 0), (0, 0, 0, 0)))) := by unfold spBegin; rw [e1]; rfl
  refine m_inD (n := 7) (by omega) (fun t e4 => bT' n10 ?_) (fun e4 => bF' rfl (m_bad R (by rw [sp]; unfold gR_; rw [e4]) q))
  have d4 := dec_some e4
  refine m_rc h (m_noRule R e4 (fun u n eu ev => bT rfl ?_) (fun er N eu hr R' F' => bF (by rcases hr with rfl | rfl <;> decide) ?_))
  · obtain ⟨hu, hwu⟩ := R.fR d4.1 ev
    rw [eu] at sp
    rw [sp] at q
    rw [d1.2.1, d4.2.1]
    have tn : ∀ j, j < 8 → ρ (r 12 + 1 + j) = 1012 := fun j hj => tg2 h (k := 12) rfl hj
    have t7 : ∀ j, j < 10 → ρ (r 7 + 1 + j) = 1007 := fun j hj => tg2 h (k := 7) rfl hj
    have t5 := tg1 h (k := 5) rfl
    have t6 := tg1 h (k := 6) rfl
    -- all that is written
    let S : Nat → Nat → Prop := fun b i => b = r 12 + 1 + 7 ∨ ((b = r 5 ∨ b = r 6) ∧ i = 8) ∨ b = r 7 + 1 + 8 ∨ (b = a ∧ 14 ≤ i ∧ i ≤ 20)
    refine loopV (fun g v N => F_X3_begin_b42 Q a (Int32.ofNat x) (Int32.ofNat t) g v N) (fun i => Int32.ofNat i) (fun i N => FmG S M N ∧ ∀ j, j < i → mI N (r 12 + 1 + 7) j = mI M (r 12 + 1 + x) j) 20 (fun i hi g N hI k => ?_) (fun g N hI => ?_) M ⟨FmG.rf, fun j hj => absurd hj (Nat.not_lt_zero _)⟩
    · obtain ⟨f, w⟩ := hI
      have hN := f.lay h
      refine leF (a := 20) hi (by omega) (m_g2 hN rfl (m_aN (i := 7) hN rfl (by omega) (by omega) (m_g2 hN rfl (m_aN hN rfl (by omega) (by omega) (m_bI hN rfl (by omega) hi (by omega) (m_vI hN rfl (by omega) hi (by omega) ?_))))))
      rw [i32_lit 1, i32_add]
      refine k _ ⟨f.tr (FmG.sI (Or.inl rfl)), fun j hj => ?_⟩
      by_cases c : j = i
      · rw [c, mI_eq]
        refine (f.2 _ _ ?_).1
        rintro (e | ⟨e, -⟩ | e | ⟨e, -⟩)
        · omega
        · rcases e with e | e
          · exact ne_tg (tn x (by omega)) t5 (by omega) e
          · exact ne_tg (tn x (by omega)) t6 (by omega) e
        · exact ne_tg (tn x (by omega)) (t7 8 (by omega)) (by omega) e
        · exact ne_tg (tn x (by omega)) t0 (by omega) e
      · exact (mI_ne (Or.inr c)).trans (w j (by omega))
    · obtain ⟨f, w⟩ := hI
      have hN := f.lay h
      have r58 : ∀ (k : Nat), (k = 5 ∨ k = 6) → mI N (r k) t = mI M (r k) t := fun k hk' => (f.2 _ _ (by
        have tk : ρ (r k) = 1000 + k := by rcases hk' with rfl | rfl; exact t5; exact t6
        rintro (e | ⟨e, z⟩ | e | ⟨e, -⟩)
        · exact ne_tg tk (tn 7 (by omega)) (by omega) e
        · omega
        · exact ne_tg tk (t7 8 (by omega)) (by omega) e
        · exact ne_tg tk t0 (by omega) e)).1
      have n56 : r 5 ≠ r 6 := ne_tg t5 t6 (by omega)
      refine leT (a := 20) (Nat.le_refl _) (by omega) (m_g1 hN rfl (m_g1 hN rfl (m_aI hN rfl (by omega) (by omega) (m_uI (i := 8) hN rfl (by omega) (by omega) (m_g1 (hN.sI _ _ _) rfl (m_g1 (hN.sI _ _ _) rfl (m_aI (hN.sI _ _ _) rfl (by omega) (by omega) (m_uI (i := 8) (hN.sI _ _ _) rfl (by omega) (by omega) ?_))))))))
      rw [mI_ne (Or.inl n56.symm), r58 5 (Or.inl rfl), r58 6 (Or.inr rfl)]
      have f2 : FmG S M (sI (sI N (r 5) 8 (mI M (r 5) t)) (r 6) 8 (mI M (r 6) t)) := (f.tr (FmG.sI (Or.inr (Or.inl ⟨Or.inl rfl, rfl⟩)))).tr (FmG.sI (Or.inr (Or.inl ⟨Or.inr rfl, rfl⟩)))
      have e5 : mI (sI (sI N (r 5) 8 (mI M (r 5) t)) (r 6) 8 (mI M (r 6) t)) (r 5) 8 = mI M (r 5) t := (mI_ne (Or.inl n56)).trans mI_eq
      have e6 : mI (sI (sI N (r 5) 8 (mI M (r 5) t)) (r 6) 8 (mI M (r 6) t)) (r 6) 8 = mI M (r 6) t := mI_eq
      have w2 : ∀ j, j < 20 → mI (sI (sI N (r 5) 8 (mI M (r 5) t)) (r 6) 8 (mI M (r 6) t)) (r 12 + 1 + 7) j = mI M (r 12 + 1 + x) j := fun j hj => (mI_ne (Or.inl (ne_tg (tn 7 (by omega)) t6 (by omega)))).trans ((mI_ne (Or.inl (ne_tg (tn 7 (by omega)) t5 (by omega)))).trans (w j hj))
      generalize sI (sI N (r 5) 8 (mI M (r 5) t)) (r 6) 8 (mI M (r 6) t) = N2 at f2 e5 e6 w2 ⊢
      refine loopV (fun g v N => F_X3_begin_b103 Q a (Int32.ofNat x) (Int32.ofNat t) g v N) (fun i => Int32.ofNat i) (fun i N => FmG S M N ∧ mI N (r 5) 8 = mI M (r 5) t ∧ mI N (r 6) 8 = mI M (r 6) t ∧ (∀ j, j < 20 → mI N (r 12 + 1 + 7) j = mI M (r 12 + 1 + x) j) ∧ ∀ j, j < i → mI N (r 7 + 1 + 8) j = mI M (r 7 + 1 + t) j) 125 (fun i hi g N hI k => ?_) (fun g N hI => ?_) N2 ⟨f2, e5, e6, w2, fun j hj => absurd hj (Nat.not_lt_zero _)⟩
      · obtain ⟨f, e5, e6, w, w7⟩ := hI
        have hN := f.lay h
        refine leF (a := 125) hi (by omega) (m_g2 hN rfl (m_aN (i := 8) hN rfl (by omega) (by omega) (m_g2 hN rfl (m_aN hN rfl (by omega) (by omega) (m_bI (j := t) hN rfl (by omega) hi (by omega) (m_vI hN rfl (by omega) hi (by omega) ?_))))))
        rw [i32_lit 1, i32_add]
        refine k _ ⟨f.tr (FmG.sI (Or.inr (Or.inr (Or.inl rfl)))), (mI_ne (Or.inl (ne_tg t5 (t7 8 (by omega)) (by omega)))).trans e5, (mI_ne (Or.inl (ne_tg t6 (t7 8 (by omega)) (by omega)))).trans e6, fun j hj => (mI_ne (Or.inl (ne_tg (tn 7 (by omega)) (t7 8 (by omega)) (by omega)))).trans (w j hj), fun j hj => ?_⟩
        by_cases c : j = i
        · rw [c, mI_eq]
          refine (f.2 _ _ ?_).1
          have tt := t7 t (by omega)
          rintro (e | ⟨e, -⟩ | e | ⟨e, -⟩)
          · exact ne_tg tt (tn 7 (by omega)) (by omega) e
          · rcases e with e | e
            · exact ne_tg tt t5 (by omega) e
            · exact ne_tg tt t6 (by omega) e
          · omega
          · exact ne_tg tt t0 (by omega) e
        · exact (mI_ne (Or.inr c)).trans (w7 j (by omega))
      · obtain ⟨f, e5, e6, w, w7⟩ := hI
        have hN := f.lay h
        have hPx : mI (sI N a 14 (1 : Int32)) (r 12 + 1 + x) 0 = Int32.ofNat (aP A x 0) := (mI_ne (Or.inl (ne_tg (tn x (by omega)) t0 (by omega)))).trans ((f.2 _ _ (by
          rintro (e | ⟨e, -⟩ | e | ⟨e, -⟩)
          · omega
          · rcases e with e | e
            · exact ne_tg (tn x (by omega)) t5 (by omega) e
            · exact ne_tg (tn x (by omega)) t6 (by omega) e
          · exact ne_tg (tn x (by omega)) (t7 8 (by omega)) (by omega) e
          · exact ne_tg (tn x (by omega)) t0 (by omega) e)).1.trans (g1 0 (by omega)))
        refine leT (a := 125) (Nat.le_refl _) (by omega) (m_pI hN (m_g2 (hN.sI _ _ _) rfl (m_aN (hN.sI _ _ _) rfl (by omega) (by omega) (m_bI (i := 0) (hN.sI _ _ _) rfl (by omega) (by omega) (by omega) ?_))))
        rw [hPx]
        refine m_pI (hN.sI _ _ _) (m_pI ((hN.sI _ _ _).sI _ _ _) (m_pI (((hN.sI _ _ _).sI _ _ _).sI _ _ _) (m_pI ((((hN.sI _ _ _).sI _ _ _).sI _ _ _).sI _ _ _) (m_pI (((((hN.sI _ _ _).sI _ _ _).sI _ _ _).sI _ _ _).sI _ _ _) (m_pI ((((((hN.sI _ _ _).sI _ _ _).sI _ _ _).sI _ _ _).sI _ _ _).sI _ _ _) (m_gI (((((((hN.sI _ _ _).sI _ _ _).sI _ _ _).sI _ _ _).sI _ _ _).sI _ _ _).sI _ _ _) ?_))))))
        have sA : ∀ {i : Nat}, 14 ≤ i → i ≤ 20 → S a i := fun h1 h2 => Or.inr (Or.inr (Or.inr ⟨rfl, h1, h2⟩))
        have f7 : FmG S M (sI (sI (sI (sI (sI (sI (sI N a 14 (1 : Int32)) a 15 (Int32.ofNat (aP A x 0))) a 16 (0 : Int32)) a 17 (0 : Int32)) a 18 (0 : Int32)) a 19 (0 : Int32)) a 20 (0 : Int32)) := ((((((f.tr (FmG.sI (sA (by omega) (by omega)))).tr (FmG.sI (sA (by omega) (by omega)))).tr (FmG.sI (sA (by omega) (by omega)))).tr (FmG.sI (sA (by omega) (by omega)))).tr (FmG.sI (sA (by omega) (by omega)))).tr (FmG.sI (sA (by omega) (by omega)))).tr (FmG.sI (sA (by omega) (by omega)))
        have ne : ∀ b, b ≠ a → ∀ i, mI (sI (sI (sI (sI (sI (sI (sI N a 14 (1 : Int32)) a 15 (Int32.ofNat (aP A x 0))) a 16 (0 : Int32)) a 17 (0 : Int32)) a 18 (0 : Int32)) a 19 (0 : Int32)) a 20 (0 : Int32)) b i = mI N b i := fun b hb i => by rw [mI_ne (Or.inl hb), mI_ne (Or.inl hb), mI_ne (Or.inl hb), mI_ne (Or.inl hb), mI_ne (Or.inl hb), mI_ne (Or.inl hb), mI_ne (Or.inl hb)]
        have e14 : mI (sI (sI (sI (sI (sI (sI (sI N a 14 (1 : Int32)) a 15 (Int32.ofNat (aP A x 0))) a 16 (0 : Int32)) a 17 (0 : Int32)) a 18 (0 : Int32)) a 19 (0 : Int32)) a 20 (0 : Int32)) a 14 = 1 := by rw [mI_ne (Or.inr (by omega)), mI_ne (Or.inr (by omega)), mI_ne (Or.inr (by omega)), mI_ne (Or.inr (by omega)), mI_ne (Or.inr (by omega)), mI_ne (Or.inr (by omega)), mI_eq]
        have e15 : mI (sI (sI (sI (sI (sI (sI (sI N a 14 (1 : Int32)) a 15 (Int32.ofNat (aP A x 0))) a 16 (0 : Int32)) a 17 (0 : Int32)) a 18 (0 : Int32)) a 19 (0 : Int32)) a 20 (0 : Int32)) a 15 = Int32.ofNat (aP A x 0) := by rw [mI_ne (Or.inr (by omega)), mI_ne (Or.inr (by omega)), mI_ne (Or.inr (by omega)), mI_ne (Or.inr (by omega)), mI_ne (Or.inr (by omega)), mI_eq]
        have e16 : mI (sI (sI (sI (sI (sI (sI (sI N a 14 (1 : Int32)) a 15 (Int32.ofNat (aP A x 0))) a 16 (0 : Int32)) a 17 (0 : Int32)) a 18 (0 : Int32)) a 19 (0 : Int32)) a 20 (0 : Int32)) a 16 = 0 := by rw [mI_ne (Or.inr (by omega)), mI_ne (Or.inr (by omega)), mI_ne (Or.inr (by omega)), mI_ne (Or.inr (by omega)), mI_eq]
        have e17 : mI (sI (sI (sI (sI (sI (sI (sI N a 14 (1 : Int32)) a 15 (Int32.ofNat (aP A x 0))) a 16 (0 : Int32)) a 17 (0 : Int32)) a 18 (0 : Int32)) a 19 (0 : Int32)) a 20 (0 : Int32)) a 17 = 0 := by rw [mI_ne (Or.inr (by omega)), mI_ne (Or.inr (by omega)), mI_ne (Or.inr (by omega)), mI_eq]
        have e18 : mI (sI (sI (sI (sI (sI (sI (sI N a 14 (1 : Int32)) a 15 (Int32.ofNat (aP A x 0))) a 16 (0 : Int32)) a 17 (0 : Int32)) a 18 (0 : Int32)) a 19 (0 : Int32)) a 20 (0 : Int32)) a 18 = 0 := by rw [mI_ne (Or.inr (by omega)), mI_ne (Or.inr (by omega)), mI_eq]
        have e19 : mI (sI (sI (sI (sI (sI (sI (sI N a 14 (1 : Int32)) a 15 (Int32.ofNat (aP A x 0))) a 16 (0 : Int32)) a 17 (0 : Int32)) a 18 (0 : Int32)) a 19 (0 : Int32)) a 20 (0 : Int32)) a 19 = 0 := by rw [mI_ne (Or.inr (by omega)), mI_eq]
        have e20 : mI (sI (sI (sI (sI (sI (sI (sI N a 14 (1 : Int32)) a 15 (Int32.ofNat (aP A x 0))) a 16 (0 : Int32)) a 17 (0 : Int32)) a 18 (0 : Int32)) a 19 (0 : Int32)) a 20 (0 : Int32)) a 20 = 0 := mI_eq
        rw [e15]
        generalize sI (sI (sI (sI (sI (sI (sI N a 14 (1 : Int32)) a 15 (Int32.ofNat (aP A x 0))) a 16 (0 : Int32)) a 17 (0 : Int32)) a 18 (0 : Int32)) a 19 (0 : Int32)) a 20 (0 : Int32) = N7 at f7 ne e14 e15 e16 e17 e18 e19 e20 ⊢
        obtain ⟨k1, k2, k3, k4, k5⟩ := R.2.2.2.2.2.2.1
        have k2' : aH A ≤ 6 := k2
        have nr : ∀ y, y < 7 → ∀ i, ¬ S (r 12 + 1 + y) i := fun y hy i => by
          rintro (e | ⟨e, -⟩ | e | ⟨e, -⟩)
          · omega
          · rcases e with e | e
            · exact ne_tg (tn y (by omega)) t5 (by omega) e
            · exact ne_tg (tn y (by omega)) t6 (by omega) e
          · exact ne_tg (tn y (by omega)) (t7 8 (by omega)) (by omega) e
          · exact ne_tg (tn y (by omega)) t0 (by omega) e
        have na : ∀ i, i < 14 → ¬ S a i := fun i hi => by
          rintro (e | ⟨e, -⟩ | e | ⟨e, z, -⟩)
          · exact ne_tg t0 (tn 7 (by omega)) (by omega) e
          · rcases e with e | e
            · exact ne_tg t0 t5 (by omega) e
            · exact ne_tg t0 t6 (by omega) e
          · exact ne_tg t0 (t7 8 (by omega)) (by omega) e
          · omega
        refine q N7 r ρ (R.setKp (f7.mono (fun b i z => ?_)) rfl rfl ⟨(f7.2 _ _ (na 11 (by omega))).1.trans k1, k2, fun y hy => ⟨f7.hs (nr y (Nat.lt_of_lt_of_le hy (Nat.le_trans k2 (by omega)))) (k3 y hy).1, (k3 y hy).2⟩, (f7.2 _ _ (na 13 (by omega))).1.trans k4, ?_⟩) (f7.fmm (fun b i z => ?_))
        · rcases z with e | ⟨e, z⟩ | e | ⟨e, z1, z2⟩
          · rw [e]; exact Or.inl (Or.inr (Or.inr (tn 7 (by omega))))
          · refine Or.inr (Or.inl ⟨?_, by omega⟩)
            rcases e with e | e
            · rw [e]; exact Or.inl t5
            · rw [e]; exact Or.inr t6
          · rw [e]; exact Or.inr (Or.inr ⟨t7 8 (by omega), rfl⟩)
          · rw [e]; exact Or.inl (Or.inr (Or.inl ⟨t0, by omega⟩))
        · refine ⟨e14, ⟨fun i hi => ?_, g2⟩, ⟨⟨?_, fun z => ?_, fun z i hi => ?_⟩, hwu⟩, ⟨e15, Nat.le_refl _⟩, ⟨e16, p5_pos _⟩, e17, e18, e19, e20⟩
          · have hi : i < 5 + 5 * aP A x 4 := hi
            rw [ne _ (ne_tg (tn 7 (by omega)) t0 (by omega)), w i (by omega)]
            exact g1 i hi
          · rw [ne _ (ne_tg t5 t0 (by omega)), e5]; exact hu.1
          · rw [ne _ (ne_tg t6 t0 (by omega)), e6]; exact hu.2.1 z
          · rw [ne _ (ne_tg (t7 8 (by omega)) t0 (by omega)), w7 i hi]; exact hu.2.2 z i hi
        · rcases z with e | ⟨e, z⟩ | e | ⟨e, z1, z2⟩
          · rw [e, tn 7 (by omega)]; omega
          · rcases e with e | e
            · rw [e, t5]; omega
            · rw [e, t6]; omega
          · rw [e, t7 8 (by omega)]; omega
          · rw [e, t0]; omega
  · rw [sp, eu] at q
    exact q N r ρ R' F'
end MOP8
