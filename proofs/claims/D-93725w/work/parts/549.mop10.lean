/-! the model's operations: images; the model is made -/
set_option maxRecDepth 100000
section MOP10
variable {M M' : gM} {a b : Nat} {r rb ρ ρ' : Nat → Nat} {A : Ab}
/-- what isn't of the other class stays -/
def Ext (ρ : Nat → Nat) (M : gM) (ρ' : Nat → Nat) (M' : gM) : Prop := gl M' = gl M ∧ ∀ b, kd M b ≠ none → (kd M' b = kd M b ∧ ρ' b = ρ b) ∧ (ρ b < 100000 → ∀ i, mI M' b i = mI M b i ∧ mJ M' b i = mJ M b i ∧ mR M' b i = mR M b i)
theorem Ext.lay (f : Ext ρ M ρ' M') {o : Nat} (ho : o < 2000) (h : LayM M a r ρ o) : LayM M' a r ρ' o := by
  obtain ⟨h0, h1, h2⟩ := h
  have l0 : kd M a ≠ none := by rw [h0.1]; exact fun z => by cases z
  have c0 := f.2 a l0
  have v0 := c0.2 (by rw [h0.2]; omega)
  have kl : ∀ k n ty, m1 k = some (ty, n) → k < 40 := fun k n ty hk => by
    unfold m1 at hk
    split at hk <;> first | omega | cases hk
  have kl2 : ∀ k n K ty, m2 k = some (ty, n, K) → k < 40 := fun k n K ty hk => by
    unfold m2 at hk
    split at hk <;> first | omega | cases hk
  refine ⟨⟨c0.1.1.trans h0.1, c0.1.2.trans h0.2⟩, fun k ty n hk => ?_, fun k ty n K hk => ⟨?_, fun j hj => ?_⟩⟩
  · obtain ⟨g1, g2, g3⟩ := h1 k ty n hk
    have c := f.2 (r k) (by rw [g2]; exact fun z => by cases z)
    exact ⟨(v0 k).2.2.trans g1, c.1.1.trans g2, c.1.2.trans g3⟩
  · obtain ⟨⟨g1, g2, g3⟩, -⟩ := h2 k ty n K hk
    have c := f.2 (r k) (by rw [g2]; exact fun z => by cases z)
    exact ⟨(v0 k).2.2.trans g1, c.1.1.trans g2, c.1.2.trans g3⟩
  · obtain ⟨⟨g1, g2, g3⟩, g4⟩ := h2 k ty n K hk
    obtain ⟨e1, e2, e3⟩ := g4 j hj
    have c := f.2 (r k) (by rw [g2]; exact fun z => by cases z)
    have c2 := f.2 (r k + 1 + j) (by rw [e2]; exact fun z => by cases z)
    have := kl2 k n K ty hk
    exact ⟨(c.2 (by omega) j).2.2.trans e1, c2.1.1.trans e2, c2.1.2.trans e3⟩
theorem Ext.cs (f : Ext ρ M ρ' M') (h : CsA M ρ) : CsA M' ρ' := by
  obtain ⟨h1, h2, h3⟩ := h
  have c0 := f.2 (gl M 0) (by rw [h2.1]; exact fun z => by cases z)
  refine ⟨fun j hj => ?_, ?_, fun i hi => ?_⟩
  · obtain ⟨v, g1, g2, g3, g4, g5⟩ := h1 j hj
    rw [f.1]
    have c1 := f.2 _ (show kd M (gl M (j + 1)) ≠ none by rw [g1.1]; exact fun z => by cases z)
    have c2 := f.2 v (by rw [g4.1]; exact fun z => by cases z)
    have v1 := c1.2 (by rw [g1.2]; omega)
    have v2 := c2.2 (by rw [g4.2]; omega)
    exact ⟨v, ⟨c1.1.1.trans g1.1, c1.1.2.trans g1.2⟩, (v1 0).2.2.trans g2, (v1 1).1.trans g3, ⟨c2.1.1.trans g4.1, c2.1.2.trans g4.2⟩, fun i hi => ⟨(v2 i).1.trans (g5 i hi).1, (g5 i hi).2⟩⟩
  · rw [f.1]
    exact ⟨c0.1.1.trans h2.1, c0.1.2.trans h2.2⟩
  · rw [f.1]
    exact (c0.2 (by rw [h2.2]; omega) i).1.trans (h3 i hi)
/-- the same cells, with what stands in them now -/
def mix (M M' : gM) : gM := (M.1, M'.2.1, M'.2.2.1, M.2.2.2)
theorem Ext.mx (f : Ext ρ M ρ' M') : FmG (fun b _ => ¬ (kd M b ≠ none ∧ ρ b < 100000)) M (mix M M') := ⟨⟨rfl, rfl, rfl⟩, fun b i z => by
  have z := Classical.not_not.mp z
  have c := (f.2 b z.1).2 z.2 i
  exact ⟨c.1, c.2.1⟩⟩
theorem lv1 {o : Nat} (ho : o < 2000) (h : LayM M a r ρ o) {k n : Nat} {ty : FieldType} (hk : m1 k = some (ty, n)) (hk' : k < 100) : kd M (r k) ≠ none ∧ ρ (r k) < 100000 := by
  obtain ⟨-, g2, g3⟩ := h.2.1 k ty n hk
  exact ⟨(by rw [g2]; exact fun z => by cases z), by omega⟩
theorem lv2 {o : Nat} (ho : o < 2000) (h : LayM M a r ρ o) {k n K j : Nat} {ty : FieldType} (hk : m2 k = some (ty, n, K)) (hj : j < n) (hk' : k < 100) : kd M (r k + 1 + j) ≠ none ∧ ρ (r k + 1 + j) < 100000 := by
  obtain ⟨-, g2, g3⟩ := (h.2.2 k ty n K hk).2 j hj
  exact ⟨(by rw [g2]; exact fun z => by cases z), by omega⟩
theorem lv0 {o : Nat} (ho : o < 2000) (h : LayM M a r ρ o) : kd M a ≠ none ∧ ρ a < 100000 := ⟨(by rw [h.1.1]; exact fun z => by cases z), by rw [h.1.2]; omega⟩
theorem Ext.kp (f : Ext ρ M ρ' M') {o : Nat} (ho : o < 2000) (h : LayM M a r ρ o) {K : Kp} (w : KpM M a r K) : KpM M' a r K := by
  have l0 := lv0 ho h
  have : KpM (mix M M') a r K := f.mx.kp (fun i _ z => z l0) (fun x i hx _ z => z (lv2 ho h rfl hx (by omega))) (fun z => z (lv1 ho h rfl (by omega))) (fun z => z (lv1 ho h rfl (by omega))) (fun i z => z (lv2 ho h rfl (by omega) (by omega))) w
  exact this
theorem MRel.ext (R : MRel M a r ρ A) (f : Ext ρ M ρ' M') : MRel M' a r ρ' A := by
  obtain ⟨a1, a2, a3, a4, a5, a6, a7, a8⟩ := R
  have ho : (1000 : Nat) < 2000 := by omega
  have l0 := lv0 ho a1
  have c0 := f.2 a l0.1
  have v0 := c0.2 l0.2
  refine ⟨f.lay ho a1, f.cs a2, fun s hs => ?_, ?_, fun i h1 h2 => ?_, (v0 39).1.trans a6, f.kp ho a1 a7, ?_⟩
  · have : ShM (mix M M') r s (aSh A s) := f.mx.sh (fun k hk z => by
      rcases hk with rfl | rfl | rfl | rfl | rfl | rfl
      · exact z (lv1 ho a1 (k := 0) rfl (by omega))
      · exact z (lv1 ho a1 (k := 1) rfl (by omega))
      · exact z (lv1 ho a1 (k := 2) rfl (by omega))
      · exact z (lv1 ho a1 (k := 5) rfl (by omega))
      · exact z (lv1 ho a1 (k := 6) rfl (by omega))
      · exact z (lv1 ho a1 (k := 22) rfl (by omega))) (fun i z => z (lv2 ho a1 (k := 3) rfl hs (by omega))) (fun i z => z (lv2 ho a1 (k := 7) (j := s) rfl (by omega) (by omega))) (a3 s hs)
    exact this
  · have : TpM (mix M M') a r (aTp A) (aTz A) := f.mx.tp (fun z => z l0) (fun i z => z (lv1 ho a1 (k := 8) rfl (by omega))) a4
    exact this
  · exact ((f.2 (r 10) (lv1 ho a1 (k := 10) rfl (by omega)).1).2 (lv1 ho a1 (k := 10) rfl (by omega)).2 i).1.trans (a5 i h1 h2)
  · cases e : aIm A with
    | none =>
      rw [e] at a8
      exact (v0 21).2.2.trans a8
    | some K =>
      rw [e] at a8
      obtain ⟨b, rb, g1, g2, g3⟩ := a8
      exact ⟨b, rb, (v0 21).2.2.trans g1, f.lay (by omega) g2, f.kp (by omega) g2 g3⟩
/-- what a model takes from another -/
def STk (a : Nat) (r : Nat → Nat) (c i : Nat) : Prop := (c = a ∧ (i = 11 ∨ (13 ≤ i ∧ i ≤ 20))) ∨ (∃ x, x < 8 ∧ c = r 12 + 1 + x) ∨ ((c = r 5 ∨ c = r 6) ∧ i = 8) ∨ c = r 7 + 1 + 8
theorem m_takeFrom {o o' : Nat} (h : LayM M a r ρ o) (h' : LayM M b rb ρ o') (ho : o + 100 ≤ o' ∨ o' + 100 ≤ o) {Q : gM → Prop} (q : ∀ M', FmG (STk a r) M M' → (∀ K, KpM M b rb K → KpM M' a r K) → Q M') : F_X3_takeFrom M a b Q := by
  have t0 := h.1.2
  have s0 := h'.1.2
  have tn : ∀ j, j < 8 → ρ (r 12 + 1 + j) = o + 12 := fun j hj => tg2 h (k := 12) rfl hj
  have t7 := tg2 h (k := 7) (j := 8) rfl (by omega)
  have t5 := tg1 h (k := 5) rfl
  have t6 := tg1 h (k := 6) rfl
  have no : ∀ c t i, ρ c = o' + t → t < 100 → ¬ STk a r c i := fun c t i hc ht => by
    rintro (⟨e, -⟩ | ⟨x, hx, e⟩ | ⟨e, -⟩ | e)
    · rw [e] at hc; omega
    · have := tn x hx; rw [e] at hc; omega
    · rcases e with e | e <;> rw [e] at hc <;> omega
    · rw [e] at hc; omega
  have sn : ∀ j, j < 8 → ρ (rb 12 + 1 + j) = o' + 12 := fun j hj => tg2 h' (k := 12) rfl hj
  have s7 := tg2 h' (k := 7) (j := 8) rfl (by omega)
  have s5 := tg1 h' (k := 5) rfl
  have s6 := tg1 h' (k := 6) rfl
  refine m_gI h' (m_pI h ?_)
  have n1 : ∀ x, x < 8 → r 12 + 1 + x ≠ a := fun x hx => ne_tg (tn x hx) t0 (by omega)
  refine loopV (fun g v N => F_X3_takeFrom_b10 Q a b g v N) (fun x => Int32.ofNat x) (fun x N => FmG (STk a r) M N ∧ mI N a 11 = mI M b 11 ∧ ∀ y, y < x → ∀ j, j < 20 → mI N (r 12 + 1 + y) j = mI M (rb 12 + 1 + y) j) 8 (fun x hx g N hI k => ?_) (fun g N hI => ?_) _ ⟨FmG.sI (Or.inl ⟨rfl, Or.inl rfl⟩), mI_eq, fun y hy => absurd hy (Nat.not_lt_zero _)⟩
  · obtain ⟨f, e11, w⟩ := hI
    refine leF (a := 8) hx (by omega) ?_
    refine loopV (fun g' v N => F_X3_takeFrom_b18 Q (F_X3_takeFrom_b10 Q a b g) a b (Int32.ofNat x) g' v N) (fun j => Int32.ofNat j) (fun i N => FmG (STk a r) M N ∧ mI N a 11 = mI M b 11 ∧ (∀ y, y < x → ∀ j, j < 20 → mI N (r 12 + 1 + y) j = mI M (rb 12 + 1 + y) j) ∧ ∀ j, j < i → mI N (r 12 + 1 + x) j = mI M (rb 12 + 1 + x) j) 20 (fun i hi g' N hI k' => ?_) (fun g' N hI => ?_) N ⟨f, e11, w, fun j hj => absurd hj (Nat.not_lt_zero _)⟩
    · obtain ⟨f, e11, w, w2⟩ := hI
      have hN := f.lay h
      have hN' := f.lay h'
      refine leF (a := 20) hi (by omega) (m_g2 hN rfl (m_aN hN rfl hx (by omega) (m_g2 hN' rfl (m_aN hN' rfl hx (by omega) (m_bI hN' rfl hx hi (by omega) (m_vI hN rfl hx hi (by omega) ?_))))))
      rw [i32_lit 1, i32_add]
      refine k' _ ⟨f.tr (FmG.sI (Or.inr (Or.inl ⟨x, hx, rfl⟩))), (mI_ne (Or.inl (n1 x hx).symm)).trans e11, fun y hy j hj => (mI_ne (Or.inl (by omega))).trans (w y hy j hj), fun j hj => ?_⟩
      by_cases c : j = i
      · rw [c, mI_eq]
        exact (f.2 _ _ (no _ 12 i (sn x hx) (by omega))).1
      · exact (mI_ne (Or.inr c)).trans (w2 j (by omega))
    · obtain ⟨f, e11, w, w2⟩ := hI
      refine leT (a := 20) (Nat.le_refl _) (by omega) ?_
      rw [i32_lit 1, i32_add]
      refine k N ⟨f, e11, fun y hy j hj => ?_⟩
      by_cases c : y = x
      · rw [c]; exact w2 j hj
      · exact w y (by omega) j hj
  · obtain ⟨f, e11, w⟩ := hI
    have hN := f.lay h
    have hN' := f.lay h'
    have n56 : r 5 ≠ r 6 := ne_tg t5 t6 (by omega)
    have n65 : rb 6 ≠ r 5 := ne_tg s6 t5 (by omega)
    refine leT (a := 8) (Nat.le_refl _) (by omega) (m_g1 hN rfl (m_g1 hN' rfl (m_aI (i := 8) hN' rfl (by omega) (by omega) (m_uI (i := 8) hN rfl (by omega) (by omega) (m_g1 (hN.sI _ _ _) rfl (m_g1 (hN'.sI _ _ _) rfl (m_aI (i := 8) (hN'.sI _ _ _) rfl (by omega) (by omega) (m_uI (i := 8) (hN.sI _ _ _) rfl (by omega) (by omega) ?_))))))))
    rw [mI_ne (Or.inl n65), (f.2 _ _ (no _ 5 8 s5 (by omega))).1, (f.2 _ _ (no _ 6 8 s6 (by omega))).1]
    have f2 : FmG (STk a r) M (sI (sI N (r 5) 8 (mI M (rb 5) 8)) (r 6) 8 (mI M (rb 6) 8)) := (f.tr (FmG.sI (Or.inr (Or.inr (Or.inl ⟨Or.inl rfl, rfl⟩))))).tr (FmG.sI (Or.inr (Or.inr (Or.inl ⟨Or.inr rfl, rfl⟩))))
    have e5 : mI (sI (sI N (r 5) 8 (mI M (rb 5) 8)) (r 6) 8 (mI M (rb 6) 8)) (r 5) 8 = mI M (rb 5) 8 := (mI_ne (Or.inl n56)).trans mI_eq
    have e6 : mI (sI (sI N (r 5) 8 (mI M (rb 5) 8)) (r 6) 8 (mI M (rb 6) 8)) (r 6) 8 = mI M (rb 6) 8 := mI_eq
    have e11' : mI (sI (sI N (r 5) 8 (mI M (rb 5) 8)) (r 6) 8 (mI M (rb 6) 8)) a 11 = mI M b 11 := (mI_ne (Or.inl (ne_tg t0 t6 (by omega)))).trans ((mI_ne (Or.inl (ne_tg t0 t5 (by omega)))).trans e11)
    have w' : ∀ y, y < 8 → ∀ j, j < 20 → mI (sI (sI N (r 5) 8 (mI M (rb 5) 8)) (r 6) 8 (mI M (rb 6) 8)) (r 12 + 1 + y) j = mI M (rb 12 + 1 + y) j := fun y hy j hj => (mI_ne (Or.inl (ne_tg (tn y hy) t6 (by omega)))).trans ((mI_ne (Or.inl (ne_tg (tn y hy) t5 (by omega)))).trans (w y hy j hj))
    generalize sI (sI N (r 5) 8 (mI M (rb 5) 8)) (r 6) 8 (mI M (rb 6) 8) = N2 at f2 e5 e6 e11' w' ⊢
    refine loopV (fun g v N => F_X3_takeFrom_b82 Q a b g v N) (fun i => Int32.ofNat i) (fun i N => FmG (STk a r) M N ∧ mI N (r 5) 8 = mI M (rb 5) 8 ∧ mI N (r 6) 8 = mI M (rb 6) 8 ∧ mI N a 11 = mI M b 11 ∧ (∀ y, y < 8 → ∀ j, j < 20 → mI N (r 12 + 1 + y) j = mI M (rb 12 + 1 + y) j) ∧ ∀ j, j < i → mI N (r 7 + 1 + 8) j = mI M (rb 7 + 1 + 8) j) 125 (fun i hi g N hI k => ?_) (fun g N hI => ?_) N2 ⟨f2, e5, e6, e11', w', fun j hj => absurd hj (Nat.not_lt_zero _)⟩
    · obtain ⟨f, e5, e6, e11, w, w7⟩ := hI
      have hN := f.lay h
      have hN' := f.lay h'
      refine leF (a := 125) hi (by omega) (m_g2 hN rfl (m_aN (i := 8) hN rfl (by omega) (by omega) (m_g2 hN' rfl (m_aN (i := 8) hN' rfl (by omega) (by omega) (m_bI hN' rfl (by omega) hi (by omega) (m_vI hN rfl (by omega) hi (by omega) ?_))))))
      rw [i32_lit 1, i32_add]
      refine k _ ⟨f.tr (FmG.sI (Or.inr (Or.inr (Or.inr rfl)))), (mI_ne (Or.inl (ne_tg t5 t7 (by omega)))).trans e5, (mI_ne (Or.inl (ne_tg t6 t7 (by omega)))).trans e6, (mI_ne (Or.inl (ne_tg t0 t7 (by omega)))).trans e11, fun y hy j hj => (mI_ne (Or.inl (ne_tg (tn y hy) t7 (by omega)))).trans (w y hy j hj), fun j hj => ?_⟩
      by_cases c : j = i
      · rw [c, mI_eq]
        exact (f.2 _ _ (no _ 7 i s7 (by omega))).1
      · exact (mI_ne (Or.inr c)).trans (w7 j (by omega))
    · obtain ⟨f, e5, e6, e11, w, w7⟩ := hI
      refine leT (a := 125) (Nat.le_refl _) (by omega) ?_
      have nab : b ≠ a := ne_tg s0 t0 (by omega)
      -- the eight numbers
      have one : ∀ (N : gM) (κ : gM → Prop) (i : Nat), (13 ≤ i ∧ i ≤ 20) → FmG (STk a r) M N → κ (sI N a i (mI M b i)) → gI N 3 b i fun x => pI N 3 a i x κ := fun N κ i hi f hκ => by
        have hN := f.lay h
        refine m_gI (f.lay h') (m_pI hN ?_)
        rw [(f.2 b i (no b 99 i s0 (by omega))).1]
        exact hκ
      have st : ∀ {N : gM} {i : Nat} {x : Int32}, (13 ≤ i ∧ i ≤ 20) → FmG (STk a r) M N → FmG (STk a r) M (sI N a i x) := fun hi f => f.tr (FmG.sI (Or.inl ⟨rfl, Or.inr hi⟩))
      refine one N _ 13 (by omega) f (one _ _ 14 (by omega) (st (by omega) f) (one _ _ 15 (by omega) (st (by omega) (st (by omega) f)) (one _ _ 16 (by omega) (st (by omega) (st (by omega) (st (by omega) f))) (one _ _ 17 (by omega) (st (by omega) (st (by omega) (st (by omega) (st (by omega) f)))) (one _ _ 18 (by omega) (st (by omega) (st (by omega) (st (by omega) (st (by omega) (st (by omega) f))))) (one _ _ 19 (by omega) (st (by omega) (st (by omega) (st (by omega) (st (by omega) (st (by omega) (st (by omega) f)))))) (one _ _ 20 (by omega) (st (by omega) (st (by omega) (st (by omega) (st (by omega) (st (by omega) (st (by omega) (st (by omega) f))))))) ?_)))))))
      have f8 := st (i := 20) (x := mI M b 20) (by omega) (st (i := 19) (x := mI M b 19) (by omega) (st (i := 18) (x := mI M b 18) (by omega) (st (i := 17) (x := mI M b 17) (by omega) (st (i := 16) (x := mI M b 16) (by omega) (st (i := 15) (x := mI M b 15) (by omega) (st (i := 14) (x := mI M b 14) (by omega) (st (i := 13) (x := mI M b 13) (by omega) f)))))))
      have ea : ∀ i, 13 ≤ i → i ≤ 20 → mI (sI (sI (sI (sI (sI (sI (sI (sI N a 13 (mI M b 13)) a 14 (mI M b 14)) a 15 (mI M b 15)) a 16 (mI M b 16)) a 17 (mI M b 17)) a 18 (mI M b 18)) a 19 (mI M b 19)) a 20 (mI M b 20)) a i = mI M b i := fun i h1 h2 => by
        simp only [mI_sI]
        rcases (by omega : i = 13 ∨ i = 14 ∨ i = 15 ∨ i = 16 ∨ i = 17 ∨ i = 18 ∨ i = 19 ∨ i = 20) with rfl | rfl | rfl | rfl | rfl | rfl | rfl | rfl <;> simp
      have eb : ∀ c i, (c ≠ a ∨ i < 13) → mI (sI (sI (sI (sI (sI (sI (sI (sI N a 13 (mI M b 13)) a 14 (mI M b 14)) a 15 (mI M b 15)) a 16 (mI M b 16)) a 17 (mI M b 17)) a 18 (mI M b 18)) a 19 (mI M b 19)) a 20 (mI M b 20)) c i = mI N c i := fun c i hc => by
        have g : ∀ j, 13 ≤ j → (c ≠ a ∨ i ≠ j) := fun j hj => hc.imp_right (fun z => by omega)
        rw [mI_ne (g 20 (by omega)), mI_ne (g 19 (by omega)), mI_ne (g 18 (by omega)), mI_ne (g 17 (by omega)), mI_ne (g 16 (by omega)), mI_ne (g 15 (by omega)), mI_ne (g 14 (by omega)), mI_ne (g 13 (by omega))]
      generalize sI (sI (sI (sI (sI (sI (sI (sI N a 13 (mI M b 13)) a 14 (mI M b 14)) a 15 (mI M b 15)) a 16 (mI M b 16)) a 17 (mI M b 17)) a 18 (mI M b 18)) a 19 (mI M b 19)) a 20 (mI M b 20) = N8 at f8 ea eb ⊢
      refine q N8 f8 (fun K hK => ?_)
      obtain ⟨k1, k2, k3, k4, k5⟩ := hK
      have hsl : ∀ {y : Nat} {P : Nat → Nat}, y < 8 → P 4 ≤ 3 → HsM M rb y P → HsM N8 r y P := fun {y P} hy hP hh i hi => by
        rw [eb _ _ (Or.inl (n1 y hy)), w y hy i (by omega)]
        exact hh i hi
      refine ⟨(eb a 11 (Or.inr (by omega))).trans (e11.trans k1), k2, fun y hy => ⟨hsl (by omega) (k3 y hy).2.2.2.2.2.1.2 (k3 y hy).1, (k3 y hy).2⟩, (ea 13 (by omega) (by omega)).trans k4, ?_⟩
      cases ew : kWk K with
      | none =>
        rw [ew] at k5
        exact (ea 14 (by omega) (by omega)).trans k5
      | some v =>
        rw [ew] at k5
        obtain ⟨a1, a2, a3, a4, a5, a6, a7, a8, a9⟩ := k5
        refine ⟨(ea 14 (by omega) (by omega)).trans a1, ⟨hsl (by omega) a2.2.2.2.2.2.1.2 a2.1, a2.2⟩, ⟨⟨?_, fun z => ?_, fun z i hi => ?_⟩, a3.2⟩, ⟨(ea 15 (by omega) (by omega)).trans a4.1, a4.2⟩, ⟨(ea 16 (by omega) (by omega)).trans a5.1, a5.2⟩, (ea 17 (by omega) (by omega)).trans a6, (ea 18 (by omega) (by omega)).trans a7, (ea 19 (by omega) (by omega)).trans a8, (ea 20 (by omega) (by omega)).trans a9⟩
        · rw [eb _ _ (Or.inl (ne_tg t5 t0 (by omega))), e5]; exact a3.1.1
        · rw [eb _ _ (Or.inl (ne_tg t6 t0 (by omega))), e6]; exact a3.1.2.1 z
        · rw [eb _ _ (Or.inl (ne_tg t7 t0 (by omega))), w7 i hi]; exact a3.1.2.2 z i hi
theorem STk.tag {o : Nat} (h : LayM M a r ρ o) {c i : Nat} (z : STk a r c i) : o ≤ ρ c ∧ ρ c < o + 100 := by
  rcases z with ⟨e, -⟩ | ⟨x, hx, e⟩ | ⟨e, -⟩ | e
  · rw [e, h.1.2]; omega
  · rw [e, tg2 h (k := 12) rfl hx]; omega
  · rcases e with e | e
    · rw [e, tg1 h (k := 5) rfl]; omega
    · rw [e, tg1 h (k := 6) rfl]; omega
  · rw [e, tg2 h (k := 7) rfl (by omega)]; omega
theorem m_back (R : MRel M a r ρ A) {Q : Int32 → gM → Prop} (q : Km (spBack A) a ρ M Q) : F_X3_back M a Q := by
  have h := R.1
  have t0 := h.1.2
  have hi := R.2.2.2.2.2.2.2
  refine gR_i h.1.1 ?_
  cases ei : aIm A with
  | none =>
    rw [ei] at hi
    have hi : mR M a 21 = none := hi
    rw [hi]
    exact ⟨fun _ => m_rc h (m_rj (n := 5) R (by omega) (by unfold spBack; rw [ei]) q), fun b z => by cases z⟩
  | some K =>
    rw [ei] at hi
    obtain ⟨b, rb, g1, g2, g3⟩ := hi
    have es : spBack A = (1, sNow A K) := by unfold spBack; rw [ei]
    rw [es] at q
    rw [g1]
    refine ⟨fun z => (by cases z), fun b' z => ?_⟩
    cases z
    refine gR_i h.1.1 ?_
    rw [g1]
    refine ⟨b, rfl, m_rc h (m_takeFrom h g2 (by omega) (fun N f w => ?_))⟩
    refine q N r ρ (R.setKp (f.mono (fun c i z => ?_)) rfl rfl (w K g3)) (f.fmm (fun c i z => by have := z.tag h; omega))
    rcases z with ⟨e, z⟩ | ⟨x, hx, e⟩ | ⟨e, z⟩ | e
    · rw [e]; exact Or.inl (Or.inr (Or.inl ⟨t0, z⟩))
    · rw [e]; exact Or.inl (Or.inr (Or.inr (tg2 h (k := 12) rfl hx)))
    · refine Or.inr (Or.inl ⟨?_, by omega⟩)
      rcases e with e | e
      · rw [e]; exact Or.inl (tg1 h (k := 5) rfl)
      · rw [e]; exact Or.inr (tg1 h (k := 6) rfl)
    · rw [e]; exact Or.inr (Or.inr ⟨tg2 h (k := 7) rfl (by omega), rfl⟩)
end MOP10
