/-! the model's chances -/
set_option maxRecDepth 100000
theorem i32_dec (n : Nat) : Int32.ofNat (n + 1) + (-1 : Int32) = Int32.ofNat n := by
  have : Int32.ofNat (n + 1) = Int32.ofNat n + Int32.ofNat 1 := (i32_add n 1).symm
  rw [this]
  grind -lia
def ChT (M : gM) (r P : Nat → Nat) (u : Ru) : Prop := ∀ d, d ≤ P 0 → ∀ t, t < 125 → mJ M (r 38 + 1 + d) t = Int64.ofNat (chN P u (P 0 - d) t)
section MFCH
variable {M : gM} {a o : Nat} {r ρ P : Nat → Nat}
theorem Onl.wy {M' : gM} {b k : Nat} (f : Onl b M M') (h : LayM M a r ρ o) (hb : ρ b = o + k) (hk : k ≠ 31) (w : Wy M r P) : Wy M' r P := by
  unfold Wy W1 W3 W2 at w ⊢
  rw [f.1.2.2.2]
  exact ⟨w.1, fun c hc => ⟨(f.2 _ _ (ne_tg (tg1 h (k := 31) rfl) hb (by omega))).trans (w.2 c hc).1, (w.2 c hc).2⟩⟩
theorem Onl.bst {M' : gM} {b k n : Nat} {mu : Nat → Bool} (f : Onl b M M') (h : LayM M a r ρ o) (hb : ρ b = o + k) (hk : k ≠ 28) (hn : n ≤ 7) (w : Bst M r P mu n) : Bst M' r P mu n := by
  unfold Bst at w ⊢
  rw [f.1.2.2.2]
  exact fun d hd s hs => ⟨(f.2 _ _ (ne_tg (tg2 h (k := 28) rfl (by omega)) hb (by omega))).trans (w d hd s hs).1, (w d hd s hs).2⟩
theorem m_findChances (h : LayM M a r ρ o) {x n : Nat} {u : Ru} {Q : gM → Prop} (hx : x < 8) (hP : HsM M r x P) (hw : Wf P) (hn : n < 10) (hu : RuM M r n u) (hwu : WfR u) (hmu : mI M a 39 = (-1 : Int32)) (q : ∀ M', Fr ρ o M M' → Wy M' r P → Bst M' r P (fun _ => false) (P 0 + 1) → ChT M' r P u → Q M') : F_X3_findChances M a (Int32.ofNat x) (Int32.ofNat n) Q := by
  have hk := hw.2.2.2.2.1
  have hd0 := hw.1
  have h5 := p5_le hk.2
  have hf3 := hw.2.2.2.1
  -- all of it that doesn't change
  have st1 : ∀ {N N' : gM} {d : Nat}, d < 7 → LayM N a r ρ o → Onl (r 38 + 1 + d) N N' → (Fr ρ o M N ∧ Wy N r P ∧ Bst N r P (fun _ => false) (P 0 + 1)) → (Fr ρ o M N' ∧ Wy N' r P ∧ Bst N' r P (fun _ => false) (P 0 + 1)) := by
    intro N N' d hd hN f g
    have tg := tg2 hN (k := 38) rfl hd
    exact ⟨g.1.tr (f.fr (fun i => sc2 hN (k := 38) rfl hd (by omega))), f.wy hN tg (by omega) g.2.1, f.bst hN tg (by omega) (by omega) g.2.2⟩
  have l76 : ∀ (K68 : Int32 → gM → Prop) (l : Nat), l + 1 ≤ P 0 → (∀ N, (Fr ρ o M N ∧ Wy N r P ∧ Bst N r P (fun _ => false) (P 0 + 1)) → (∀ d, l ≤ d → d ≤ P 0 → ∀ t, t < 125 → mJ N (r 38 + 1 + d) t = Int64.ofNat (chN P u (P 0 - d) t)) → (∀ d, d < l → ∀ t, t < 125 → mJ N (r 38 + 1 + d) t = 0) → K68 (Int32.ofNat l) N) →
      ∀ (e s g : Nat) (N : gM), s + e = 5 ^ P 4 → e < g → (Fr ρ o M N ∧ Wy N r P ∧ Bst N r P (fun _ => false) (P 0 + 1)) → (∀ d, l + 1 ≤ d → d ≤ P 0 → ∀ t, t < 125 → mJ N (r 38 + 1 + d) t = Int64.ofNat (chN P u (P 0 - d) t)) → (∀ t, t < 125 → mJ N (r 38 + 1 + l) t = Int64.ofNat (stN P u (l + 1) (chN P u (P 0 - (l + 1))) s t)) → (∀ d, d < l → ∀ t, t < 125 → mJ N (r 38 + 1 + d) t = 0) →
        F_X3_findChances_b76 Q K68 a (Int32.ofNat x) (Int32.ofNat n) (Int32.ofNat (l + 1)) g (Int32.ofNat s) N := by
    intro K68 l hl hK e
    induction e with
    | zero =>
      intro s g N hs hg f c1 c2 c3
      obtain ⟨g, rfl⟩ : ∃ z, g = z + 1 := ⟨g - 1, by omega⟩
      have hN := f.1.lay h
      refine m_rc hN (m_states hN hx (f.1.hs h hx hP) hk.2 (bT (by rw [i32_le (by omega) (by omega)]; omega) ?_))
      rw [i32_dec]
      refine hK N f (fun d hd1 hd2 t ht => ?_) c3
      by_cases e : d = l
      · subst e
        have hs : s = 5 ^ P 4 := by omega
        have e1 : chN P u (P 0 - d) = stN P u (d + 1) (chN P u (P 0 - (d + 1))) (5 ^ P 4) := by
          rw [show P 0 - d = (P 0 - (d + 1)) + 1 by omega]
          show stN P u (P 0 - (P 0 - (d + 1))) _ _ = _
          rw [show P 0 - (P 0 - (d + 1)) = d + 1 by omega]
        rw [c2 t ht, hs, e1]
      · exact c1 d (by omega) hd2 t ht
    | succ e ih =>
      intro s g N hs hg f c1 c2 c3
      obtain ⟨g, rfl⟩ : ∃ z, g = z + 1 := ⟨g - 1, by omega⟩
      have hN := f.1.lay h
      have hPN := f.1.hs h hx hP
      have hs5 : s < 5 ^ P 4 := by omega
      have hch := chN_lt hw (u := u) (j := P 0 - (l + 1)) (t := s) (by omega) hs5
      have hle := ldF_le hw (u := u) (d := l + 1) (s := s) (by omega)
      have p24 : (4 : Nat) ^ 24 = 281474976710656 := by decide
      refine m_rc hN (m_states hN hx hPN hk.2 (bF (by rw [i32_le (by omega) (by omega)]; omega) (m_g2 hN rfl (m_aN hN rfl (by omega) (by omega) (m_bJ hN rfl (by omega) (by omega) (by omega) ?_)))))
      rw [c1 (l + 1) (by omega) hl s (by omega), i64_lit 0, i64_le (by omega) (by omega)]
      generalize hD : chN P u (P 0 - (l + 1)) s = D at hch
      have eD : stN P u (l + 1) (chN P u (P 0 - (l + 1))) (s + 1) = spN P (s - ldF P u (l + 1) s) (D * (4 - P 3)) (spN P s (D * P 3) (stN P u (l + 1) (chN P u (P 0 - (l + 1))) s) (2 ^ P 4)) (2 ^ P 4) := by rw [← hD]; rfl
      refine ⟨fun z => ?_, fun z => ?_⟩
      · show F_X3_findChances_b76 Q K68 a (Int32.ofNat x) (Int32.ofNat n) (Int32.ofNat (l + 1)) g (Int32.ofNat s + (1 : Int32)) N
        rw [i32_lit 1, i32_add]
        refine ih (s + 1) g N (by omega) (by omega) f c1 (fun t ht => ?_) c3
        have e0 : ∀ (v : Nat) (G : Nat → Nat) (n t : Nat), spN P v 0 G n t = G t := by
          intro v G n
          induction n with
          | zero => intro t; rfl
          | succ n ihn =>
            intro t
            show spN P v 0 G n t + (if t = _ then 0 * _ else 0) = G t
            rw [ihn t, Nat.zero_mul]
            split <;> rfl
        rw [c2 t ht, eD, show D = 0 by omega, Nat.zero_mul, Nat.zero_mul, e0, e0]
      · have hb : kd N (r 38 + 1 + l) = some (true, .inr (.long, 125)) := ((hN.2.2 38 _ _ _ rfl).2 l (by omega)).2.1
        have w1 : D * P 3 < 9223372036854775808 := by have := Nat.mul_le_mul hch hf3; omega
        have w2 : D * (4 - P 3) < 9223372036854775808 := by have := Nat.mul_le_mul hch (show 4 - P 3 ≤ 4 by omega); omega
        refine m_g2 hN rfl (m_aN hN rfl hx (by omega) (m_bI (i := 3) hN rfl hx (by omega) (by omega) (m_g2 hN rfl ?_)))
        rw [i32_lit 1, i32_sub (by omega), Nat.add_sub_cancel, hPN 3 (by omega), i64_of (by omega), i64_mul]
        refine m_aN hN rfl (by omega) (by omega) (m_rc hN (m_goesOn hN hx hPN hw hs5 w1 hb c2 (fun N1 f1 d1 => ?_)))
        have g1 := st1 (by omega) hN f1 f
        have hN1 := g1.1.lay h
        have hP1 := g1.1.hs h hx hP
        refine m_rc hN1 (m_loadBy hN1 hx hP1 hw hn (g1.1.ru h hn hu) hwu g1.2.2 (by omega) hs5 (fun ll hll => ?_))
        have hll := ldB_F hll
        refine m_g2 hN1 rfl (m_aN hN1 rfl hx (by omega) (m_bI (i := 3) hN1 rfl hx (by omega) (by omega) (m_g2 hN1 rfl (m_aN hN1 rfl (by omega) (by omega) (m_rc hN1 ?_)))))
        rw [hP1 3 (by omega), i32_lit 4, i32_sub (by omega), i32_sub (by omega), i64_of (by omega), i64_mul]
        have hb1 : kd N1 (r 38 + 1 + l) = some (true, .inr (.long, 125)) := by rw [f1.1.1]; exact hb
        refine m_goesOn hN1 hx hP1 hw (by omega) w2 hb1 d1 (fun N2 f2 d2 => ?_)
        have g2 := st1 (by omega) hN1 f2 g1
        show F_X3_findChances_b76 Q K68 a (Int32.ofNat x) (Int32.ofNat n) (Int32.ofNat (l + 1)) g (Int32.ofNat s + Int32.ofNat 1) N2
        rw [i32_add]
        have f12 := f1.tr f2
        refine ih (s + 1) g N2 (by omega) (by omega) g2 (fun d hd1 hd2 t ht => (f12.2 _ _ (by omega)).trans (c1 d hd1 hd2 t ht)) (fun t ht => ?_) (fun d hd t ht => (f12.2 _ _ (by omega)).trans (c3 d hd t ht))
        rw [d2 t ht, eD, hll]
  have l68 : ∀ (l g : Nat) (N : gM), l ≤ P 0 → l < g → (Fr ρ o M N ∧ Wy N r P ∧ Bst N r P (fun _ => false) (P 0 + 1)) → (∀ d, l ≤ d → d ≤ P 0 → ∀ t, t < 125 → mJ N (r 38 + 1 + d) t = Int64.ofNat (chN P u (P 0 - d) t)) → (∀ d, d < l → ∀ t, t < 125 → mJ N (r 38 + 1 + d) t = 0) → F_X3_findChances_b68 Q a (Int32.ofNat x) (Int32.ofNat n) g (Int32.ofNat l) N := by
    intro l
    induction l with
    | zero =>
      intro g N hl hg f c1 c3
      obtain ⟨g, rfl⟩ : ∃ z, g = z + 1 := ⟨g - 1, by omega⟩
      exact bT (by rw [i32_lit 0, i32_le (by omega) (by omega)]; omega) (q N f.1 f.2.1 f.2.2 (fun d hd t ht => c1 d (Nat.zero_le _) hd t ht))
    | succ l ih =>
      intro g N hl hg f c1 c3
      obtain ⟨g, rfl⟩ : ∃ z, g = z + 1 := ⟨g - 1, by omega⟩
      refine bF (by rw [i32_lit 0, i32_le (by omega) (by omega)]; omega) ⟨5 ^ P 4 + 1, ?_⟩
      exact l76 _ l hl (fun N' f' c1' c3' => ih g N' (by omega) (by omega) f' c1' c3') (5 ^ P 4) 0 (5 ^ P 4 + 1) N (by omega) (by omega) f c1 (fun t ht => c3 l (by omega) t ht) (fun d hd t ht => c3 d (by omega) t ht)
  have l26 : ∀ (K17 : Int32 → gM → Prop) (d : Nat), d ≤ P 0 → (∀ N, (Fr ρ o M N ∧ Wy N r P ∧ Bst N r P (fun _ => false) (P 0 + 1)) → (∀ d', d' < d + 1 → ∀ t, t < 125 → mJ N (r 38 + 1 + d') t = 0) → K17 (Int32.ofNat (d + 1)) N) →
      ∀ (e s g : Nat) (N : gM), s + e = 125 → e < g → (Fr ρ o M N ∧ Wy N r P ∧ Bst N r P (fun _ => false) (P 0 + 1)) → (∀ d', d' < d → ∀ t, t < 125 → mJ N (r 38 + 1 + d') t = 0) → (∀ t, t < s → mJ N (r 38 + 1 + d) t = 0) → F_X3_findChances_b26 Q K17 a (Int32.ofNat x) (Int32.ofNat n) (Int32.ofNat (P 0)) (Int32.ofNat d) g (Int32.ofNat s) N := by
    intro K17 d hd hK e
    induction e with
    | zero =>
      intro s g N hs hg f c1 c2
      obtain ⟨g, rfl⟩ : ∃ z, g = z + 1 := ⟨g - 1, by omega⟩
      refine bT (by rw [i32_lit 125, i32_le (by omega) (by omega)]; omega) ?_
      rw [i32_lit 1, i32_add]
      refine hK N f (fun d' hd' t ht => ?_)
      by_cases e : d' = d
      · rw [e]; exact c2 t (by omega)
      · exact c1 d' (by omega) t ht
    | succ e ih =>
      intro s g N hs hg f c1 c2
      obtain ⟨g, rfl⟩ : ∃ z, g = z + 1 := ⟨g - 1, by omega⟩
      have hN := f.1.lay h
      refine bF (by rw [i32_lit 125, i32_le (by omega) (by omega)]; omega) (m_g2 hN rfl (m_aN hN rfl (by omega) (by omega) (m_vJ hN rfl (by omega) (by omega) (by omega) ?_)))
      rw [i32_lit 1, i32_add]
      refine ih (s + 1) g _ (by omega) (by omega) (st1 (by omega) hN Onl.rf.wJ f) (fun d' hd' t ht => (mJ_ne (Or.inl (by omega))).trans (c1 d' hd' t ht)) (fun t ht => ?_)
      by_cases e : t = s
      · rw [e]; exact mJ_eq
      · exact (mJ_ne (Or.inr e)).trans (c2 t (by omega))
  have l17 : ∀ (e d g : Nat) (N : gM), d + e = P 0 + 1 → e < g → (Fr ρ o M N ∧ Wy N r P ∧ Bst N r P (fun _ => false) (P 0 + 1)) → (∀ d', d' < d → ∀ t, t < 125 → mJ N (r 38 + 1 + d') t = 0) → F_X3_findChances_b17 Q a (Int32.ofNat x) (Int32.ofNat n) (Int32.ofNat (P 0)) g (Int32.ofNat d) N := by
    intro e
    induction e with
    | zero =>
      intro d g N hd hg f c1
      obtain ⟨g, rfl⟩ : ∃ z, g = z + 1 := ⟨g - 1, by omega⟩
      have hN := f.1.lay h
      refine bT (by rw [i32_lt (by omega) (by omega)]; omega) (m_g2 hN rfl (m_aN hN rfl (by omega) (by omega) (m_vJ (i := 0) hN rfl (by omega) (by omega) (by omega) ⟨P 0 + 1, ?_⟩)))
      refine l68 (P 0) (P 0 + 1) _ (Nat.le_refl _) (by omega) (st1 (by omega) hN Onl.rf.wJ f) (fun d' h1 h2 t ht => ?_) (fun d' hd' t ht => (mJ_ne (Or.inl (by omega))).trans (c1 d' (by omega) t ht))
      rw [show d' = P 0 by omega, Nat.sub_self]
      show _ = Int64.ofNat (if t = 0 then 1 else 0)
      by_cases e : t = 0
      · rw [if_pos e, e, mJ_eq]
        rfl
      · rw [if_neg e, mJ_ne (Or.inr e), c1 (P 0) (by omega) t ht]
        rfl
    | succ e ih =>
      intro d g N hd hg f c1
      obtain ⟨g, rfl⟩ : ∃ z, g = z + 1 := ⟨g - 1, by omega⟩
      refine bF (by rw [i32_lt (by omega) (by omega)]; omega) ⟨126, ?_⟩
      exact l26 _ d (by omega) (fun N' f' c' => ih (d + 1) g N' (by omega) (by omega) f' c') 125 0 126 N (by omega) (by omega) f c1 (fun t ht => absurd ht (Nat.not_lt_zero _))
  refine m_rc h (m_findBest (mu := fun _ => false) h hx hP hw (fun d hd => ?_) (fun N f wy wb => ?_))
  · rw [hmu]
    exact propext ⟨fun z => (by cases z), fun z => absurd z (oI_ne (i := d) (by omega))⟩
  · have hN := f.lay h
    refine m_g2 hN rfl (m_aN hN rfl hx (by omega) (m_bI (i := 0) hN rfl hx (by omega) (by omega) ⟨P 0 + 2, ?_⟩))
    rw [f.hs h hx hP 0 (by omega)]
    exact l17 (P 0 + 1) 0 (P 0 + 2) N (by omega) (by omega) ⟨f, wy, wb⟩ (fun d hd => absurd hd (Nat.not_lt_zero _))
end MFCH
