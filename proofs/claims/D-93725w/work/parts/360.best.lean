/-! the least costs, and loads -/
set_option maxRecDepth 100000
def isLdb (P : Nat → Nat) (s l : Nat) : Bool := decide ((dg l 0 ≤ dg s 0 ∧ dg l 1 ≤ dg s 1 ∧ dg l 2 ≤ dg s 2) ∧ sm P 0 l ≤ P 2)
theorem isLdb_iff {P : Nat → Nat} {s l : Nat} : isLdb P s l = true ↔ isLd P s l := decide_eq_true_iff
/-- the best of the first n loads -/
def bsN (P : Nat → Nat) (b : Int64) (mu : Bool) (s : Nat) (w : Nat → Int64) : Nat → Int64 × Nat
  | 0 => (w s, 0)
  | l + 1 => if isLdb P s (l + 1) = true ∧ (b + w (s - (l + 1)) < (bsN P b mu s w l).1 ∨ (mu = true ∧ (bsN P b mu s w l).2 = 0)) then (b + w (s - (l + 1)), l + 1) else bsN P b mu s w l
/-- the least cost with so many days left (mu: the days on which something must be sent) -/
def CT (P : Nat → Nat) (mu : Nat → Bool) : Nat → Nat → Int64
  | 0, s => Int64.ofNat (sm P 4 s)
  | d + 1, s => Int64.ofNat (P 3) * bh P (d + 1) s (CT P mu d) + Int64.ofNat (4 - P 3) * (bsN P (bx P (d + 1)) (mu (d + 1)) s (fun t => bh P (d + 1) t (CT P mu d)) s).1
def LT (P : Nat → Nat) (mu : Nat → Bool) : Nat → Nat → Nat
  | 0, _ => 0
  | d + 1, s => (bsN P (bx P (d + 1)) (mu (d + 1)) s (fun t => bh P (d + 1) t (CT P mu d)) s).2
theorem bhN_congr {P : Nat → Nat} {d s : Nat} {f g : Nat → Int64} (hk : P 4 ≤ 3) (hs : s < 5 ^ P 4) (h : ∀ t, t < 5 ^ P 4 → f t = g t) : ∀ n, n ≤ 8 → bhN P d s f n = bhN P d s g n := by
  intro n
  induction n with
  | zero => intro _; rfl
  | succ n ih =>
    intro hn
    show bhN P d s f n + _ * (_ + f _) = bhN P d s g n + _ * (_ + g _)
    rw [ih (by omega), h _ (th_lt hk (by omega) hs)]
theorem bh_congr {P : Nat → Nat} {d s : Nat} {f g : Nat → Int64} (hk : P 4 ≤ 3) (hs : s < 5 ^ P 4) (h : ∀ t, t < 5 ^ P 4 → f t = g t) : bh P d s f = bh P d s g := bhN_congr hk hs h _ (p2_le hk)
theorem bsN_le (P : Nat → Nat) (b : Int64) (mu : Bool) (s : Nat) (w : Nat → Int64) : ∀ n, (bsN P b mu s w n).2 ≤ n := by
  intro n
  induction n with
  | zero => exact Nat.le_refl _
  | succ n ih =>
    unfold bsN
    split
    · exact Nat.le_refl _
    · omega
/-- the tables are there for the first n days -/
def Bst (M : gM) (r P : Nat → Nat) (mu : Nat → Bool) (n : Nat) : Prop := ∀ d, d < n → ∀ s, s < 5 ^ P 4 → mJ M (r 28 + 1 + d) s = CT P mu d s ∧ mI M (r 29 + 1 + d) s = Int32.ofNat (LT P mu d s)
def BsR (M : gM) (r P : Nat → Nat) (mu : Nat → Bool) (d n : Nat) : Prop := ∀ s, s < n → mJ M (r 28 + 1 + d) s = CT P mu d s ∧ mI M (r 29 + 1 + d) s = Int32.ofNat (LT P mu d s)
def Wt (M : gM) (r P : Nat → Nat) (f : Nat → Int64) (d n : Nat) : Prop := ∀ t, t < n → mJ M (r 37) t = bh P d t f
section MBST
variable {M : gM} {a o : Nat} {r ρ P : Nat → Nat} {mu : Nat → Bool}
theorem Wy.wI (h : LayM M a r ρ o) (hk : P 4 ≤ 3) (w : Wy M r P) {b i k : Nat} {x : Int32} (hb : ρ b = o + k) (hn : k < 31 ∨ 37 ≤ k) : Wy (sI M b i x) r P := by
  have h2 := p2_le hk
  refine ⟨w.1.wI (ne_tg (tg1 h (k := 34) rfl) hb (by omega)) (ne_tg (tg1 h (k := 35) rfl) hb (by omega)) (ne_tg (tg1 h (k := 36) rfl) hb (by omega)), fun c hc => ⟨(w.2 c hc).1, (w.2 c hc).2.wI (Or.inl (ne_tg (tg2 h (k := 32) rfl (by omega)) hb (by omega))) (Or.inl (ne_tg (tg2 h (k := 33) rfl (by omega)) hb (by omega)))⟩⟩
theorem Wy.wJ (h : LayM M a r ρ o) (w : Wy M r P) {b i k : Nat} {x : Int64} (hb : ρ b = o + k) (hn : k ≠ 31) : Wy (sJ M b i x) r P := ⟨w.1.wJ, fun c hc => ⟨(mJ_ne (Or.inl (ne_tg (tg1 h (k := 31) rfl) hb (by omega)))).trans (w.2 c hc).1, (w.2 c hc).2.wJ⟩⟩
theorem Bst.wJ (h : LayM M a r ρ o) {n : Nat} (hn : n ≤ 7) (w : Bst M r P mu n) {b i k : Nat} {x : Int64} (hb : ρ b = o + k) (hk : k ≠ 28) : Bst (sJ M b i x) r P mu n := fun d hd s hs => ⟨(mJ_ne (Or.inl (ne_tg (tg2 h (k := 28) rfl (by omega)) hb (by omega)))).trans (w d hd s hs).1, (w d hd s hs).2⟩
theorem m_findBest (h : LayM M a r ρ o) {x : Nat} {Q : gM → Prop} (hx : x < 8) (hP : HsM M r x P) (hw : Wf P) (hmu : ∀ d, d < 7 → ((mu d = true) = (Int32.ofNat d = mI M a 39))) (q : ∀ M', Fr ρ o M M' → Wy M' r P → Bst M' r P mu (P 0 + 1) → Q M') : F_X3_findBest M a (Int32.ofNat x) Q := by
  have hk := hw.2.2.2.2.1
  have hd0 := hw.1
  have h5 := p5_le hk.2
  have hf3 := hw.2.2.2.1
  have hmN : ∀ N, Fr ρ o M N → mI N a 39 = mI M a 39 := fun N f => (f.2 a 39 (by
    rintro (⟨k, hk, e⟩ | ⟨e, z⟩)
    · rw [h.1.2] at e
      omega
    · omega)).1
  -- one state's loads
  have l124 : ∀ (K49 : Int32 → gM → Prop) (K101 : Int32 → gM → Prop) (d s : Nat), 1 ≤ d → d ≤ P 0 → s < 5 ^ P 4 → (∀ N, Fr ρ o M N → Wy N r P → Bst N r P mu d → Wt N r P (CT P mu (d - 1)) d (5 ^ P 4) → BsR N r P mu d (s + 1) → K101 (Int32.ofNat (s + 1)) N) →
      ∀ (e l g : Nat) (N : gM), l + e = s → e < g → Fr ρ o M N → Wy N r P → Bst N r P mu d → Wt N r P (CT P mu (d - 1)) d (5 ^ P 4) → BsR N r P mu d s →
        F_X3_findBest_b124 Q K49 K101 a (Int32.ofNat x) (Int32.ofNat d) (Int32.ofNat s) g (bsN P (bx P d) (mu d) s (fun t => bh P d t (CT P mu (d - 1))) l).1 (Int32.ofNat (bsN P (bx P d) (mu d) s (fun t => bh P d t (CT P mu (d - 1))) l).2) (Int32.ofNat (l + 1)) N := by
    intro K49 K101 d s hd1 hd2 hs hK e
    induction e with
    | zero =>
      intro l g N hl hg f wy wb wt br
      obtain ⟨g, rfl⟩ : ∃ z, g = z + 1 := ⟨g - 1, by omega⟩
      have hN := f.lay h
      have hPN := f.hs h hx hP
      have hl : l = s := by omega
      subst hl
      have f1 := f.wJ (x := CT P mu d l) (sc2 hN (k := 28) (j := d) (i := l) rfl (by omega) (by omega))
      have f2 := f1.wI (x := Int32.ofNat (LT P mu d l)) (sc2 hN (k := 29) (j := d) (i := l) rfl (by omega) (by omega))
      have hsub : d - 1 + 1 = d := by omega
      refine bT (by rw [i32_lt (by omega) (by omega)]; omega) (m_g2 hN rfl (m_aN hN rfl (by omega) (by omega) (m_g2 hN rfl (m_aN hN rfl hx (by omega) (m_bI (i := 3) hN rfl hx (by omega) (by omega) (m_g1 hN rfl (m_aJ hN rfl (by omega) (by omega) (m_g2 hN rfl (m_aN hN rfl hx (by omega) (m_bI (i := 3) hN rfl hx (by omega) (by omega) ?_))))))))))
      rw [hPN 3 (by omega), wt l hs, i32_lit 4, i32_sub (by omega), i64_of (by omega), i64_of (by omega)]
      have eC : Int64.ofNat (P 3) * bh P d l (CT P mu (d - 1)) + Int64.ofNat (4 - P 3) * (bsN P (bx P d) (mu d) l (fun t => bh P d t (CT P mu (d - 1))) l).1 = CT P mu d l := by
        rw [← hsub]
        rfl
      have eL : (bsN P (bx P d) (mu d) l (fun t => bh P d t (CT P mu (d - 1))) l).2 = LT P mu d l := by
        rw [← hsub]
        rfl
      rw [eC, eL]
      refine m_vJ hN rfl (by omega) (by omega) (by omega) (m_g2 (f1.lay h) rfl (m_aN (f1.lay h) rfl (by omega) (by omega) (m_vI (f1.lay h) rfl (by omega) (by omega) (by omega) ?_)))
      rw [i32_lit 1, i32_add]
      have tg28 : ρ (r 28 + 1 + d) = o + 28 := tg2 hN (k := 28) rfl (by omega)
      have tg29 : ρ (r 29 + 1 + d) = o + 29 := tg2 hN (k := 29) rfl (by omega)
      refine hK _ f2 ((wy.wJ hN tg28 (by omega)).wI (f1.lay h) hk.2 tg29 (by omega)) (fun d' hd' s' hs' => ?_) (fun t ht => ?_) (fun s' hs' => ?_)
      · exact ⟨(mJ_ne (Or.inl (by omega))).trans (wb d' hd' s' hs').1, (mI_ne (Or.inl (by omega))).trans (wb d' hd' s' hs').2⟩
      · exact (mJ_ne (Or.inl (ne_tg (tg1 hN (k := 37) rfl) tg28 (by omega)))).trans (wt t ht)
      · by_cases e : s' = l
        · subst e
          exact ⟨mJ_eq, mI_eq⟩
        · exact ⟨(mJ_ne (Or.inr e)).trans (br s' (by omega)).1, (mI_ne (Or.inr e)).trans (br s' (by omega)).2⟩
    | succ e ih =>
      intro l g N hl hg f wy wb wt br
      obtain ⟨g, rfl⟩ : ∃ z, g = z + 1 := ⟨g - 1, by omega⟩
      have hN := f.lay h
      have hPN := f.hs h hx hP
      have hI := ih (l + 1) g N (by omega) (by omega) f wy wb wt br
      have hl5 : l + 1 < 5 ^ P 4 := by omega
      have hb := bsN_le P (bx P d) (mu d) s (fun t => bh P d t (CT P mu (d - 1))) l
      have hr := hw.2.2.1
      have hm := sm0_lt hw (l + 1)
      have no : ¬ (isLdb P s (l + 1) = true ∧ (bx P d + bh P d (s - (l + 1)) (CT P mu (d - 1)) < (bsN P (bx P d) (mu d) s (fun t => bh P d t (CT P mu (d - 1))) l).1 ∨ (mu d = true ∧ (bsN P (bx P d) (mu d) s (fun t => bh P d t (CT P mu (d - 1))) l).2 = 0))) → F_X3_findBest_b206 Q K49 K101 (F_X3_findBest_b124 Q K49 K101 a (Int32.ofNat x) (Int32.ofNat d) (Int32.ofNat s) g) a (Int32.ofNat x) (Int32.ofNat d) (Int32.ofNat s) (bsN P (bx P d) (mu d) s (fun t => bh P d t (CT P mu (d - 1))) l).1 (Int32.ofNat (bsN P (bx P d) (mu d) s (fun t => bh P d t (CT P mu (d - 1))) l).2) (Int32.ofNat (l + 1)) N := by
        intro z
        show F_X3_findBest_b124 Q K49 K101 a (Int32.ofNat x) (Int32.ofNat d) (Int32.ofNat s) g _ _ (Int32.ofNat (l + 1) + (1 : Int32)) N
        rw [i32_lit 1, i32_add]
        have e9 : bsN P (bx P d) (mu d) s (fun t => bh P d t (CT P mu (d - 1))) (l + 1) = bsN P (bx P d) (mu d) s (fun t => bh P d t (CT P mu (d - 1))) l := if_neg z
        rw [e9] at hI
        exact hI
      have yes : (isLdb P s (l + 1) = true ∧ (bx P d + bh P d (s - (l + 1)) (CT P mu (d - 1)) < (bsN P (bx P d) (mu d) s (fun t => bh P d t (CT P mu (d - 1))) l).1 ∨ (mu d = true ∧ (bsN P (bx P d) (mu d) s (fun t => bh P d t (CT P mu (d - 1))) l).2 = 0))) → F_X3_findBest_b198 Q K49 K101 (F_X3_findBest_b124 Q K49 K101 a (Int32.ofNat x) (Int32.ofNat d) (Int32.ofNat s) g) a (Int32.ofNat x) (Int32.ofNat d) (Int32.ofNat s) (Int32.ofNat (l + 1)) (bx P d + bh P d (s - (l + 1)) (CT P mu (d - 1))) N := by
        intro z
        show F_X3_findBest_b124 Q K49 K101 a (Int32.ofNat x) (Int32.ofNat d) (Int32.ofNat s) g _ _ (Int32.ofNat (l + 1) + (1 : Int32)) N
        rw [i32_lit 1, i32_add]
        have e9 : bsN P (bx P d) (mu d) s (fun t => bh P d t (CT P mu (d - 1))) (l + 1) = (bx P d + bh P d (s - (l + 1)) (CT P mu (d - 1)), l + 1) := if_pos z
        rw [e9] at hI
        exact hI
      refine bF (by rw [i32_lt (by omega) (by omega)]; omega) (m_g1 hN rfl (m_aI hN rfl (by omega) (by omega) (m_g2 hN rfl (m_aN hN rfl hx (by omega) (m_bI (i := 2) hN rfl hx (by omega) (by omega) ?_)))))
      rw [hPN 2 (by omega), (wy.1 (l + 1) hl5).2.1, i32_lt (by omega) (by omega)]
      refine ⟨fun z => no (fun y => ?_), fun z => m_rc hN (m_isLoad hN hx hPN hw (by omega) (by omega) (fun y => bF (by decide) ?_) (fun y => bT rfl (no (fun y' => y (isLdb_iff.mp y'.1)))))⟩
      · have := (isLdb_iff.mp y.1).2
        omega
      refine m_rc hN (m_boxOf hN hx hPN hw ⟨hd1, by omega⟩ (m_g1 hN rfl ?_))
      rw [i32_sub (by omega)]
      refine m_aJ hN rfl (by omega) (by omega) ?_
      rw [wt _ (by omega)]
      refine ⟨fun y2 => yes ⟨isLdb_iff.mpr y, Or.inl y2⟩, fun y2 => m_gI hN ?_⟩
      rw [hmN N f, ← hmu d (by omega), i32_lit 0, i32_eq (by omega) (by omega)]
      exact ⟨fun y3 => no (fun y' => y'.2.elim y2 (fun y4 => y3 y4.1)), fun y3 => ⟨fun y4 => no (fun y' => y'.2.elim y2 (fun y5 => y4 y5.2)), fun y4 => yes ⟨isLdb_iff.mpr y, Or.inr ⟨y3, y4⟩⟩⟩⟩
  have l101 : ∀ (K49 : Int32 → gM → Prop) (d : Nat), 1 ≤ d → d ≤ P 0 → (∀ N, Fr ρ o M N → Wy N r P → Bst N r P mu (d + 1) → K49 (Int32.ofNat (d + 1)) N) →
      ∀ (e s g : Nat) (N : gM), s + e = 5 ^ P 4 → e < g → Fr ρ o M N → Wy N r P → Bst N r P mu d → Wt N r P (CT P mu (d - 1)) d (5 ^ P 4) → BsR N r P mu d s → F_X3_findBest_b101 Q K49 a (Int32.ofNat x) (Int32.ofNat d) g (Int32.ofNat s) N := by
    intro K49 d hd1 hd2 hK e
    induction e with
    | zero =>
      intro s g N hs hg f wy wb wt br
      obtain ⟨g, rfl⟩ : ∃ z, g = z + 1 := ⟨g - 1, by omega⟩
      have hN := f.lay h
      refine m_rc hN (m_states hN hx (f.hs h hx hP) hk.2 (bT (by rw [i32_le (by omega) (by omega)]; omega) ?_))
      rw [i32_lit 1, i32_add]
      refine hK N f wy (fun d' hd' s' hs' => ?_)
      by_cases e : d' = d
      · rw [e]
        exact br s' (by omega)
      · exact wb d' (by omega) s' hs'
    | succ e ih =>
      intro s g N hs hg f wy wb wt br
      obtain ⟨g, rfl⟩ : ∃ z, g = z + 1 := ⟨g - 1, by omega⟩
      have hN := f.lay h
      refine m_rc hN (m_states hN hx (f.hs h hx hP) hk.2 (bF (by rw [i32_le (by omega) (by omega)]; omega) (m_g1 hN rfl (m_aJ hN rfl (by omega) (by omega) ⟨s + 1, ?_⟩))))
      rw [wt s (by omega)]
      exact l124 K49 _ d s hd1 hd2 (by omega) (fun N' f' wy' wb' wt' br' => ih (s + 1) g N' (by omega) (by omega) f' wy' wb' wt' br') s 0 (s + 1) N (by omega) (by omega) f wy wb wt br
  have l63 : ∀ (K49 : Int32 → gM → Prop) (d : Nat), 1 ≤ d → d ≤ P 0 → (∀ N, Fr ρ o M N → Wy N r P → Bst N r P mu (d + 1) → K49 (Int32.ofNat (d + 1)) N) →
      ∀ (e s g : Nat) (N : gM), s + e = 5 ^ P 4 → e < g → Fr ρ o M N → Wy N r P → Bst N r P mu d → Wt N r P (CT P mu (d - 1)) d s → F_X3_findBest_b63 Q K49 a (Int32.ofNat x) (Int32.ofNat d) g (Int32.ofNat s) N := by
    intro K49 d hd1 hd2 hK e
    induction e with
    | zero =>
      intro s g N hs hg f wy wb wt
      obtain ⟨g, rfl⟩ : ∃ z, g = z + 1 := ⟨g - 1, by omega⟩
      have hN := f.lay h
      refine m_rc hN (m_states hN hx (f.hs h hx hP) hk.2 (bT (by rw [i32_le (by omega) (by omega)]; omega) ⟨5 ^ P 4 + 1, ?_⟩))
      have hs : s = 5 ^ P 4 := by omega
      rw [hs] at wt
      exact l101 K49 d hd1 hd2 hK (5 ^ P 4) 0 (5 ^ P 4 + 1) N (by omega) (by omega) f wy wb wt (fun t ht => absurd ht (Nat.not_lt_zero _))
    | succ e ih =>
      intro s g N hs hg f wy wb wt
      obtain ⟨g, rfl⟩ : ∃ z, g = z + 1 := ⟨g - 1, by omega⟩
      have hN := f.lay h
      have tg37 : ρ (r 37) = o + 37 := tg1 hN (k := 37) rfl
      refine m_rc hN (m_states hN hx (f.hs h hx hP) hk.2 (bF (by rw [i32_le (by omega) (by omega)]; omega) (m_g1 hN rfl (m_g2 hN rfl ?_))))
      rw [i32_lit 1, i32_sub hd1]
      refine m_aN hN rfl (by omega) (by omega) (m_rc hN (m_behind hN hx (f.hs h hx hP) hw wy ⟨hd1, by omega⟩ (by omega) ((hN.2.2 28 _ _ _ rfl).2 (d - 1) (by omega)).2.1 ?_))
      refine m_uJ hN rfl (by omega) (by omega) ?_
      rw [i32_add]
      refine ih (s + 1) g _ (by omega) (by omega) (f.wJ (sc1 hN (k := 37) rfl (by omega))) (wy.wJ hN tg37 (by omega)) (wb.wJ hN (by omega) tg37 (by omega)) (fun t ht => ?_)
      by_cases e : t = s
      · subst e
        rw [mJ_eq]
        exact bh_congr hk.2 (by omega) (fun t' ht' => (wb (d - 1) (by omega) t' ht').1)
      · exact (mJ_ne (Or.inr e)).trans (wt t (by omega))
  have l49 : ∀ (e d g : Nat) (N : gM), d + e = P 0 + 1 → 1 ≤ d → e < g → Fr ρ o M N → Wy N r P → Bst N r P mu d → F_X3_findBest_b49 Q a (Int32.ofNat x) g (Int32.ofNat d) N := by
    intro e
    induction e with
    | zero =>
      intro d g N hd hd1 hg f wy wb
      obtain ⟨g, rfl⟩ : ∃ z, g = z + 1 := ⟨g - 1, by omega⟩
      have hN := f.lay h
      refine m_g2 hN rfl (m_aN hN rfl hx (by omega) (m_bI (i := 0) hN rfl hx (by omega) (by omega) ?_))
      rw [f.hs h hx hP 0 (by omega), i32_lt (by omega) (by omega)]
      refine bT (by omega) (q N f wy ?_)
      rw [show P 0 + 1 = d by omega]
      exact wb
    | succ e ih =>
      intro d g N hd hd1 hg f wy wb
      obtain ⟨g, rfl⟩ : ∃ z, g = z + 1 := ⟨g - 1, by omega⟩
      have hN := f.lay h
      refine m_g2 hN rfl (m_aN hN rfl hx (by omega) (m_bI (i := 0) hN rfl hx (by omega) (by omega) ?_))
      rw [f.hs h hx hP 0 (by omega), i32_lt (by omega) (by omega)]
      exact bF (by omega) ⟨5 ^ P 4 + 1, l63 _ d hd1 (by omega) (fun N' f' wy' wb' => ih (d + 1) g N' (by omega) (by omega) (by omega) f' wy' wb') (5 ^ P 4) 0 (5 ^ P 4 + 1) N (by omega) (by omega) f wy wb (fun t ht => absurd ht (Nat.not_lt_zero _))⟩
  have l7 : ∀ (e s g : Nat) (N : gM), s + e = 5 ^ P 4 → e < g → Fr ρ o M N → Wy N r P → BsR N r P mu 0 s → F_X3_findBest_b7 Q a (Int32.ofNat x) g (Int32.ofNat s) N := by
    intro e
    induction e with
    | zero =>
      intro s g N hs hg f wy br
      obtain ⟨g, rfl⟩ : ∃ z, g = z + 1 := ⟨g - 1, by omega⟩
      have hN := f.lay h
      refine m_rc hN (m_states hN hx (f.hs h hx hP) hk.2 (bT (by rw [i32_le (by omega) (by omega)]; omega) ⟨P 0 + 1, ?_⟩))
      refine l49 (P 0) 1 (P 0 + 1) N (by omega) (by omega) (by omega) f wy (fun d hd s' hs' => ?_)
      rw [show d = 0 by omega]
      exact br s' (by omega)
    | succ e ih =>
      intro s g N hs hg f wy br
      obtain ⟨g, rfl⟩ : ∃ z, g = z + 1 := ⟨g - 1, by omega⟩
      have hN := f.lay h
      have hm := sm4_le hw s
      have tg28 : ρ (r 28 + 1 + 0) = o + 28 := tg2 hN (k := 28) rfl (by omega)
      have tg29 : ρ (r 29 + 1 + 0) = o + 29 := tg2 hN (k := 29) rfl (by omega)
      have f1 := f.wJ (x := CT P mu 0 s) (sc2 hN (k := 28) (j := 0) (i := s) rfl (by omega) (by omega))
      have f2 := f1.wI (x := Int32.ofNat (LT P mu 0 s)) (sc2 hN (k := 29) (j := 0) (i := s) rfl (by omega) (by omega))
      refine m_rc hN (m_states hN hx (f.hs h hx hP) hk.2 (bF (by rw [i32_le (by omega) (by omega)]; omega) (m_g2 hN rfl (m_aN (i := 0) hN rfl (by omega) (by omega) (m_rc hN (m_sum (w := 4) hN hx (f.hs h hx hP) hk.2 (by omega) (by omega) ?_))))))
      rw [i64_of (by omega)]
      refine m_vJ (x := CT P mu 0 s) hN rfl (by omega) (by omega) (by omega) (m_g2 (f1.lay h) rfl (m_aN (i := 0) (f1.lay h) rfl (by omega) (by omega) (m_vI (x := Int32.ofNat (LT P mu 0 s)) (f1.lay h) rfl (by omega) (by omega) (by omega) ?_)))
      rw [i32_lit 1, i32_add]
      refine ih (s + 1) g _ (by omega) (by omega) f2 ((wy.wJ hN tg28 (by omega)).wI (f1.lay h) hk.2 tg29 (by omega)) (fun s' hs' => ?_)
      by_cases e : s' = s
      · subst e
        exact ⟨mJ_eq, mI_eq⟩
      · exact ⟨(mJ_ne (Or.inr e)).trans (br s' (by omega)).1, (mI_ne (Or.inr e)).trans (br s' (by omega)).2⟩
  exact m_rc h (m_findWays h hx hP hw (fun N f wy => ⟨5 ^ P 4 + 1, l7 (5 ^ P 4) 0 (5 ^ P 4 + 1) N (by omega) (by omega) f wy (fun s hs => absurd hs (Nat.not_lt_zero _))⟩))
end MBST
