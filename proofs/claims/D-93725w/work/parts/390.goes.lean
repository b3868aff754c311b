/-! the model's costs by a rule -/
set_option maxRecDepth 100000
def MtT (M : gM) (r P : Nat → Nat) (u : Ru) (n : Nat) : Prop := ∀ d, d < n → ∀ s, s < 5 ^ P 4 → mJ M (r 30 + 1 + d) s = MT P u d s
def MtR (M : gM) (r P : Nat → Nat) (u : Ru) (d n : Nat) : Prop := ∀ s, s < n → mJ M (r 30 + 1 + d) s = MT P u d s
section MGOES
variable {M : gM} {a o : Nat} {r ρ P : Nat → Nat}
theorem Fr.row1 {M' : gM} (f : Fr ρ o M M') (h : LayM M a r ρ o) {k n i : Nat} {ty : FieldType} (hk : m1 k = some (ty, n)) (hs : k ≠ 4 ∧ k < 28) : mI M' (r k) i = mI M (r k) i := (f.2 _ _ (by
  rintro (⟨z, hz, e⟩ | ⟨e, -⟩)
  · rw [tg1 h hk] at e
    omega
  · rw [tg1 h hk] at e
    omega)).1
theorem Fr.row2 {M' : gM} (f : Fr ρ o M M') (h : LayM M a r ρ o) {k n K j i : Nat} {ty : FieldType} (hk : m2 k = some (ty, n, K)) (hj : j < n) (hs : k ≠ 4 ∧ k < 28) : mI M' (r k + 1 + j) i = mI M (r k + 1 + j) i ∧ mJ M' (r k + 1 + j) i = mJ M (r k + 1 + j) i := f.2 _ _ (by
  rintro (⟨z, hz, e⟩ | ⟨e, -⟩)
  · rw [tg2 h hk hj] at e
    omega
  · rw [tg2 h hk hj] at e
    omega)
theorem Fr.ru {M' : gM} (f : Fr ρ o M M') (h : LayM M a r ρ o) {n : Nat} {u : Ru} (hn : n < 10) (hu : RuM M r n u) : RuM M' r n u := ⟨(f.row1 h (k := 5) rfl (by omega)).trans hu.1, fun z => (f.row1 h (k := 6) rfl (by omega)).trans (hu.2.1 z), fun z i hi => (f.row2 h (k := 7) rfl hn (by omega)).1.trans (hu.2.2 z i hi)⟩
theorem m_goesByRule (h : LayM M a r ρ o) {x n : Nat} {u : Ru} {Q : gM → Prop} (hx : x < 8) (hP : HsM M r x P) (hw : Wf P) (hn : n < 10) (hu : RuM M r n u) (hwu : WfR u) (hWy : Wy M r P) (h4 : u.1 = 4 → Bst M r P (fun _ => false) (P 0 + 1)) (q : ∀ M', Fr ρ o M M' → Wy M' r P → (∀ mu, Bst M r P mu (P 0 + 1) → Bst M' r P mu (P 0 + 1)) → MtT M' r P u (P 0 + 1) → Q M') : F_X3_goesByRule M a (Int32.ofNat x) (Int32.ofNat n) Q := by
  have hk := hw.2.2.2.2.1
  have hd0 := hw.1
  have h5 := p5_le hk.2
  have hf3 := hw.2.2.2.1
  have l100 : ∀ (K35 : Int32 → gM → Prop) (d : Nat), 1 ≤ d → d ≤ P 0 → (∀ N, Fr ρ o M N → Wy N r P → (∀ mu, Bst M r P mu (P 0 + 1) → Bst N r P mu (P 0 + 1)) → MtT N r P u (d + 1) → K35 (Int32.ofNat (d + 1)) N) →
      ∀ (e s g : Nat) (N : gM), s + e = 5 ^ P 4 → e < g → Fr ρ o M N → Wy N r P → (∀ mu, Bst M r P mu (P 0 + 1) → Bst N r P mu (P 0 + 1)) → MtT N r P u d → Wt N r P (MT P u (d - 1)) d (5 ^ P 4) → MtR N r P u d s → F_X3_goesByRule_b100 Q K35 a (Int32.ofNat x) (Int32.ofNat n) (Int32.ofNat d) (bx P d) g (Int32.ofNat s) N := by
    intro K35 d hd1 hd2 hK e
    induction e with
    | zero =>
      intro s g N hs hg f wy wb wm wt br
      obtain ⟨g, rfl⟩ : ∃ z, g = z + 1 := ⟨g - 1, by omega⟩
      have hN := f.lay h
      refine m_rc hN (m_states hN hx (f.hs h hx hP) hk.2 (bT (by rw [i32_le (by omega) (by omega)]; omega) ?_))
      rw [i32_lit 1, i32_add]
      refine hK N f wy wb (fun d' hd' s' hs' => ?_)
      by_cases e : d' = d
      · rw [e]
        exact br s' (by omega)
      · exact wm d' (by omega) s' hs'
    | succ e ih =>
      intro s g N hs hg f wy wb wm wt br
      obtain ⟨g, rfl⟩ : ∃ z, g = z + 1 := ⟨g - 1, by omega⟩
      have hN := f.lay h
      have hPN := f.hs h hx hP
      have hs5 : s < 5 ^ P 4 := by omega
      have hm := sm0_lt hw s
      have hle := ldF_le hw (u := u) (d := d) (s := s) (by omega)
      have hsub : d - 1 + 1 = d := by omega
      have tg30 : ρ (r 30 + 1 + d) = o + 30 := tg2 hN (k := 30) rfl (by omega)
      -- the last write
      have fin : ∀ t0 : Int64, t0 = (if ldF P u d s = 0 then bh P d s (MT P u (d - 1)) else bx P d + bh P d (s - ldF P u d s) (MT P u (d - 1))) → F_X3_goesByRule_b191 Q K35 (F_X3_goesByRule_b100 Q K35 a (Int32.ofNat x) (Int32.ofNat n) (Int32.ofNat d) (bx P d) g) a (Int32.ofNat x) (Int32.ofNat n) (Int32.ofNat d) (bx P d) (Int32.ofNat s) t0 N := by
        intro t0 ht0
        refine m_g2 hN rfl (m_aN hN rfl (by omega) (by omega) (m_g2 hN rfl (m_aN hN rfl hx (by omega) (m_bI (i := 3) hN rfl hx (by omega) (by omega) (m_g1 hN rfl (m_aJ hN rfl (by omega) (by omega) (m_g2 hN rfl (m_aN hN rfl hx (by omega) (m_bI (i := 3) hN rfl hx (by omega) (by omega) ?_)))))))))
        rw [hPN 3 (by omega), wt s hs5, i32_lit 4, i32_sub (by omega), i64_of (by omega), i64_of (by omega), ht0]
        have eM : Int64.ofNat (P 3) * bh P d s (MT P u (d - 1)) + Int64.ofNat (4 - P 3) * (if ldF P u d s = 0 then bh P d s (MT P u (d - 1)) else bx P d + bh P d (s - ldF P u d s) (MT P u (d - 1))) = MT P u d s := by
          rw [← hsub]
          rfl
        rw [eM]
        refine m_vJ hN rfl (by omega) (by omega) (by omega) ?_
        rw [i32_lit 1, i32_add]
        refine ih (s + 1) g _ (by omega) (by omega) (f.wJ (sc2 hN (k := 30) rfl (by omega) (by omega))) (wy.wJ hN tg30 (by omega)) (fun mu hmu => (wb mu hmu).wJ hN (by omega) tg30 (by omega)) (fun d' hd' s' hs' => ?_) (fun t ht => ?_) (fun s' hs' => ?_)
        · exact (mJ_ne (Or.inl (by omega))).trans (wm d' hd' s' hs')
        · exact (mJ_ne (Or.inl (ne_tg (tg1 hN (k := 37) rfl) tg30 (by omega)))).trans (wt t ht)
        · by_cases e : s' = s
          · subst e
            exact mJ_eq
          · exact (mJ_ne (Or.inr e)).trans (br s' (by omega))
      have mid : ∀ l, l = ldF P u d s → F_X3_goesByRule_b161 Q K35 (F_X3_goesByRule_b100 Q K35 a (Int32.ofNat x) (Int32.ofNat n) (Int32.ofNat d) (bx P d) g) a (Int32.ofNat x) (Int32.ofNat n) (Int32.ofNat d) (bx P d) (Int32.ofNat s) (Int32.ofNat l) N := by
        intro l hl
        unfold F_X3_goesByRule_b161
        rw [i32_lit 0, i32_eq (by omega) (by omega)]
        refine ⟨fun z => m_g1 hN rfl ?_, fun z => m_g1 hN rfl (m_aJ hN rfl (by omega) (by omega) ?_)⟩
        · rw [i32_sub (by omega)]
          refine m_aJ hN rfl (by omega) (by omega) ?_
          rw [wt _ (by omega)]
          exact fin _ (by rw [if_neg (by omega), hl])
        · rw [wt s hs5]
          exact fin _ (by rw [if_pos (by omega)])
      refine m_rc hN (m_states hN hx hPN hk.2 (bF (by rw [i32_le (by omega) (by omega)]; omega) (m_g1 hN rfl (m_aI hN rfl hn (by omega) ?_))))
      rw [(f.ru h hn hu).1, i32_lit 4, i32_eq (by have := hwu.1.2; omega) (by omega)]
      refine ⟨fun z => m_g1 hN rfl (m_aI hN rfl (by omega) (by omega) ?_), fun z => m_g2 hN rfl (m_aN hN rfl (by omega) (by omega) (m_bI hN rfl (by omega) (by omega) (by omega) ?_))⟩
      · rw [(wy.1 s hs5).2.1]
        refine m_rc hN (m_fillsBy (P := P) hN hn (f.ru h hn hu) hwu z (by omega) (by omega) hm (fun y => bF (by decide) (m_g1 hN rfl (m_aI hN rfl (by omega) (by omega) ?_))) (fun y => bT rfl (mid 0 (ldF_n z y).symm)))
        rw [(wy.1 s hs5).1]
        exact mid _ (ldF_y z y).symm
      · rw [(wb _ (h4 z) d (by omega) s hs5).2]
        exact mid _ (ldF_4 z).symm
  have l50 : ∀ (K35 : Int32 → gM → Prop) (d : Nat), 1 ≤ d → d ≤ P 0 → (∀ N, Fr ρ o M N → Wy N r P → (∀ mu, Bst M r P mu (P 0 + 1) → Bst N r P mu (P 0 + 1)) → MtT N r P u (d + 1) → K35 (Int32.ofNat (d + 1)) N) →
      ∀ (e s g : Nat) (N : gM), s + e = 5 ^ P 4 → e < g → Fr ρ o M N → Wy N r P → (∀ mu, Bst M r P mu (P 0 + 1) → Bst N r P mu (P 0 + 1)) → MtT N r P u d → Wt N r P (MT P u (d - 1)) d s → F_X3_goesByRule_b50 Q K35 a (Int32.ofNat x) (Int32.ofNat n) (Int32.ofNat d) g (Int32.ofNat s) N := by
    intro K35 d hd1 hd2 hK e
    induction e with
    | zero =>
      intro s g N hs hg f wy wb wm wt
      obtain ⟨g, rfl⟩ : ∃ z, g = z + 1 := ⟨g - 1, by omega⟩
      have hN := f.lay h
      refine m_rc hN (m_states hN hx (f.hs h hx hP) hk.2 (bT (by rw [i32_le (by omega) (by omega)]; omega) (m_rc hN (m_boxOf hN hx (f.hs h hx hP) hw ⟨hd1, by omega⟩ ⟨5 ^ P 4 + 1, ?_⟩))))
      have hs : s = 5 ^ P 4 := by omega
      rw [hs] at wt
      exact l100 K35 d hd1 hd2 hK (5 ^ P 4) 0 (5 ^ P 4 + 1) N (by omega) (by omega) f wy wb wm wt (fun t ht => absurd ht (Nat.not_lt_zero _))
    | succ e ih =>
      intro s g N hs hg f wy wb wm wt
      obtain ⟨g, rfl⟩ : ∃ z, g = z + 1 := ⟨g - 1, by omega⟩
      have hN := f.lay h
      have tg37 : ρ (r 37) = o + 37 := tg1 hN (k := 37) rfl
      refine m_rc hN (m_states hN hx (f.hs h hx hP) hk.2 (bF (by rw [i32_le (by omega) (by omega)]; omega) (m_g1 hN rfl (m_g2 hN rfl ?_))))
      rw [i32_lit 1, i32_sub hd1]
      refine m_aN hN rfl (by omega) (by omega) (m_rc hN (m_behind hN hx (f.hs h hx hP) hw wy ⟨hd1, by omega⟩ (by omega) ((hN.2.2 30 _ _ _ rfl).2 (d - 1) (by omega)).2.1 ?_))
      refine m_uJ hN rfl (by omega) (by omega) ?_
      rw [i32_add]
      refine ih (s + 1) g _ (by omega) (by omega) (f.wJ (sc1 hN (k := 37) rfl (by omega))) (wy.wJ hN tg37 (by omega)) (fun mu hmu => (wb mu hmu).wJ hN (by omega) tg37 (by omega)) (fun d' hd' s' hs' => (mJ_ne (Or.inl (ne_tg (tg2 hN (k := 30) rfl (by omega)) tg37 (by omega)))).trans (wm d' hd' s' hs')) (fun t ht => ?_)
      by_cases e : t = s
      · subst e
        rw [mJ_eq]
        exact bh_congr hk.2 (by omega) (fun t' ht' => wm (d - 1) (by omega) t' ht')
      · exact (mJ_ne (Or.inr e)).trans (wt t (by omega))
  have l35 : ∀ (e d g : Nat) (N : gM), d + e = P 0 + 1 → 1 ≤ d → e < g → Fr ρ o M N → Wy N r P → (∀ mu, Bst M r P mu (P 0 + 1) → Bst N r P mu (P 0 + 1)) → MtT N r P u d → F_X3_goesByRule_b35 Q a (Int32.ofNat x) (Int32.ofNat n) g (Int32.ofNat d) N := by
    intro e
    induction e with
    | zero =>
      intro d g N hd hd1 hg f wy wb wm
      obtain ⟨g, rfl⟩ : ∃ z, g = z + 1 := ⟨g - 1, by omega⟩
      have hN := f.lay h
      refine m_g2 hN rfl (m_aN hN rfl hx (by omega) (m_bI (i := 0) hN rfl hx (by omega) (by omega) ?_))
      rw [f.hs h hx hP 0 (by omega), i32_lt (by omega) (by omega)]
      refine bT (by omega) (q N f wy wb ?_)
      rw [show P 0 + 1 = d by omega]
      exact wm
    | succ e ih =>
      intro d g N hd hd1 hg f wy wb wm
      obtain ⟨g, rfl⟩ : ∃ z, g = z + 1 := ⟨g - 1, by omega⟩
      have hN := f.lay h
      refine m_g2 hN rfl (m_aN hN rfl hx (by omega) (m_bI (i := 0) hN rfl hx (by omega) (by omega) ?_))
      rw [f.hs h hx hP 0 (by omega), i32_lt (by omega) (by omega)]
      exact bF (by omega) ⟨5 ^ P 4 + 1, l50 _ d hd1 (by omega) (fun N' f' wy' wb' wm' => ih (d + 1) g N' (by omega) (by omega) (by omega) f' wy' wb' wm') (5 ^ P 4) 0 (5 ^ P 4 + 1) N (by omega) (by omega) f wy wb wm (fun t ht => absurd ht (Nat.not_lt_zero _))⟩
  have l2 : ∀ (e s g : Nat) (N : gM), s + e = 5 ^ P 4 → e < g → Fr ρ o M N → Wy N r P → (∀ mu, Bst M r P mu (P 0 + 1) → Bst N r P mu (P 0 + 1)) → MtR N r P u 0 s → F_X3_goesByRule_b2 Q a (Int32.ofNat x) (Int32.ofNat n) g (Int32.ofNat s) N := by
    intro e
    induction e with
    | zero =>
      intro s g N hs hg f wy wb br
      obtain ⟨g, rfl⟩ : ∃ z, g = z + 1 := ⟨g - 1, by omega⟩
      have hN := f.lay h
      refine m_rc hN (m_states hN hx (f.hs h hx hP) hk.2 (bT (by rw [i32_le (by omega) (by omega)]; omega) ⟨P 0 + 1, ?_⟩))
      refine l35 (P 0) 1 (P 0 + 1) N (by omega) (by omega) (by omega) f wy wb (fun d hd s' hs' => ?_)
      rw [show d = 0 by omega]
      exact br s' (by omega)
    | succ e ih =>
      intro s g N hs hg f wy wb br
      obtain ⟨g, rfl⟩ : ∃ z, g = z + 1 := ⟨g - 1, by omega⟩
      have hN := f.lay h
      have hm := sm4_le hw s
      have tg30 : ρ (r 30 + 1 + 0) = o + 30 := tg2 hN (k := 30) rfl (by omega)
      refine m_rc hN (m_states hN hx (f.hs h hx hP) hk.2 (bF (by rw [i32_le (by omega) (by omega)]; omega) (m_g2 hN rfl (m_aN (i := 0) hN rfl (by omega) (by omega) (m_rc hN (m_sum (w := 4) hN hx (f.hs h hx hP) hk.2 (by omega) (by omega) ?_))))))
      rw [i64_of (by omega)]
      refine m_vJ (x := MT P u 0 s) hN rfl (by omega) (by omega) (by omega) ?_
      rw [i32_lit 1, i32_add]
      refine ih (s + 1) g _ (by omega) (by omega) (f.wJ (sc2 hN (k := 30) rfl (by omega) (by omega))) (wy.wJ hN tg30 (by omega)) (fun mu hmu => (wb mu hmu).wJ hN (by omega) tg30 (by omega)) (fun s' hs' => ?_)
      by_cases e : s' = s
      · subst e
        exact mJ_eq
      · exact (mJ_ne (Or.inr e)).trans (br s' (by omega))
  exact ⟨5 ^ P 4 + 1, l2 (5 ^ P 4) 0 (5 ^ P 4 + 1) M (by omega) (by omega) Fr.rf hWy (fun _ z => z) (fun s hs => absurd hs (Nat.not_lt_zero _))⟩
end MGOES
