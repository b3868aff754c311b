/-! frames of the model's work; its ways -/
set_option maxRecDepth 100000
theorem mI_eq {M : gM} {a k : Nat} {x : Int32} : mI (sI M a k x) a k = x := if_pos ⟨rfl, rfl⟩
theorem mI_ne {M : gM} {a k b j : Nat} {x : Int32} (h : b ≠ a ∨ j ≠ k) : mI (sI M a k x) b j = mI M b j := if_neg (fun z => h.elim (fun g => g z.1) (fun g => g z.2))
theorem mJ_eq {M : gM} {a k : Nat} {x : Int64} : mJ (sJ M a k x) a k = x := if_pos ⟨rfl, rfl⟩
theorem mJ_ne {M : gM} {a k b j : Nat} {x : Int64} (h : b ≠ a ∨ j ≠ k) : mJ (sJ M a k x) b j = mJ M b j := if_neg (fun z => h.elim (fun g => g z.1) (fun g => g z.2))
/-- the model's scratch: rows 4, 28 .. 38, fields 23 .. 27, 40 .. 45 -/
def Sc (ρ : Nat → Nat) (o b i : Nat) : Prop := (∃ k, (k = 4 ∨ (28 ≤ k ∧ k ≤ 38)) ∧ ρ b = o + k) ∨ (ρ b = o + 99 ∧ ((23 ≤ i ∧ i ≤ 27) ∨ (40 ≤ i ∧ i ≤ 45)))
/-- nothing but scratch has changed -/
def Fr (ρ : Nat → Nat) (o : Nat) (M M' : gM) : Prop := (kd M' = kd M ∧ mR M' = mR M ∧ gl M' = gl M) ∧ ∀ b i, ¬ Sc ρ o b i → mI M' b i = mI M b i ∧ mJ M' b i = mJ M b i
theorem Fr.rf {ρ : Nat → Nat} {o : Nat} {M : gM} : Fr ρ o M M := ⟨⟨rfl, rfl, rfl⟩, fun _ _ _ => ⟨rfl, rfl⟩⟩
theorem Fr.tr {ρ : Nat → Nat} {o : Nat} {M M' M2 : gM} (h : Fr ρ o M M') (g : Fr ρ o M' M2) : Fr ρ o M M2 := ⟨⟨g.1.1.trans h.1.1, g.1.2.1.trans h.1.2.1, g.1.2.2.trans h.1.2.2⟩, fun b i z => ⟨(g.2 b i z).1.trans (h.2 b i z).1, (g.2 b i z).2.trans (h.2 b i z).2⟩⟩
theorem Fr.wI {ρ : Nat → Nat} {o : Nat} {M M' : gM} (h : Fr ρ o M M') {b i : Nat} {x : Int32} (hs : Sc ρ o b i) : Fr ρ o M (sI M' b i x) := h.tr ⟨⟨rfl, rfl, rfl⟩, fun c j z => ⟨mI_ne (by
  by_cases e : c = b
  · right
    intro e2
    exact z (by rw [e, e2]; exact hs)
  · exact Or.inl e), rfl⟩⟩
theorem Fr.wJ {ρ : Nat → Nat} {o : Nat} {M M' : gM} (h : Fr ρ o M M') {b i : Nat} {x : Int64} (hs : Sc ρ o b i) : Fr ρ o M (sJ M' b i x) := h.tr ⟨⟨rfl, rfl, rfl⟩, fun c j z => ⟨rfl, mJ_ne (by
  by_cases e : c = b
  · right
    intro e2
    exact z (by rw [e, e2]; exact hs)
  · exact Or.inl e)⟩⟩
section FRM
variable {M M' : gM} {a o o' : Nat} {r ρ : Nat → Nat}
theorem Fr.lay (f : Fr ρ o M M') (h : LayM M a r ρ o') : LayM M' a r ρ o' := by
  unfold LayM at h ⊢
  rw [f.1.1, f.1.2.1]
  exact h
theorem tg1 (h : LayM M a r ρ o) {k n : Nat} {ty : FieldType} (hk : m1 k = some (ty, n)) : ρ (r k) = o + k := (h.2.1 k ty n hk).2.2
theorem tg2 (h : LayM M a r ρ o) {k n K j : Nat} {ty : FieldType} (hk : m2 k = some (ty, n, K)) (hj : j < n) : ρ (r k + 1 + j) = o + k := ((h.2.2 k ty n K hk).2 j hj).2.2
theorem ne_tg {x y p q : Nat} (hx : ρ x = p) (hy : ρ y = q) (h : p ≠ q) : x ≠ y := fun e => h (by rw [← hx, ← hy, e])
theorem Fr.hs (f : Fr ρ o M M') (h : LayM M a r ρ o) {x : Nat} {P : Nat → Nat} (hx : x < 8) (hP : HsM M r x P) : HsM M' r x P := fun i hi => (f.2 _ _ (by
  rintro (⟨k, hk, e⟩ | ⟨e, -⟩)
  · rw [tg2 h (k := 12) rfl hx] at e
    omega
  · rw [tg2 h (k := 12) rfl hx] at e
    omega)).1.trans (hP i hi)
theorem sc1 (h : LayM M a r ρ o) {k n i : Nat} {ty : FieldType} (hk : m1 k = some (ty, n)) (hs : k = 4 ∨ (28 ≤ k ∧ k ≤ 38)) : Sc ρ o (r k) i := Or.inl ⟨k, hs, tg1 h hk⟩
theorem sc2 (h : LayM M a r ρ o) {k n K j i : Nat} {ty : FieldType} (hk : m2 k = some (ty, n, K)) (hj : j < n) (hs : k = 4 ∨ (28 ≤ k ∧ k ≤ 38)) : Sc ρ o (r k + 1 + j) i := Or.inl ⟨k, hs, tg2 h hk hj⟩
theorem sc0 (h : LayM M a r ρ o) {i : Nat} (hs : (23 ≤ i ∧ i ≤ 27) ∨ (40 ≤ i ∧ i ≤ 45)) : Sc ρ o a i := Or.inr ⟨h.1.2, hs⟩
end FRM
/-! the ways of coming -/
def wtN (P : Nat → Nat) (c : Nat) : Nat → Nat
  | 0 => 1
  | n + 1 => wtN P c n * (if bt c n then P (6 + 5 * n) else 4 - P (6 + 5 * n))
def thN (P : Nat → Nat) (c s : Nat) : Nat → Nat
  | 0 => s
  | n + 1 => thN P c s n + (if bt c n = true ∧ dg s n ≠ 4 then 5 ^ n else 0)
def rfN (P : Nat → Nat) (c s : Nat) : Nat → Nat
  | 0 => 0
  | n + 1 => rfN P c s n + (if bt c n = true ∧ dg s n = 4 then P (8 + 5 * n) else 0)
def W1 (M : gM) (r : Nat → Nat) (P : Nat → Nat) (n : Nat) : Prop := ∀ s, s < n → mI M (r 34) s = Int32.ofNat (fl P s) ∧ mI M (r 35) s = Int32.ofNat (sm P 0 s) ∧ mI M (r 36) s = Int32.ofNat (sm P 2 s)
def W2 (M : gM) (r : Nat → Nat) (P : Nat → Nat) (c n : Nat) : Prop := ∀ s, s < n → mI M (r 32 + 1 + c) s = Int32.ofNat (thN P c s (P 4)) ∧ mI M (r 33 + 1 + c) s = Int32.ofNat (rfN P c s (P 4))
def W3 (M : gM) (r : Nat → Nat) (P : Nat → Nat) (n : Nat) : Prop := ∀ c, c < n → mJ M (r 31) c = Int64.ofNat (wtN P c (P 4)) ∧ W2 M r P c (5 ^ P 4)
/-- the ways are found -/
def Wy (M : gM) (r : Nat → Nat) (P : Nat → Nat) : Prop := W1 M r P (5 ^ P 4) ∧ W3 M r P (2 ^ P 4)
theorem W1.wJ {M : gM} {r P : Nat → Nat} {n b i : Nat} {x : Int64} (h : W1 M r P n) : W1 (sJ M b i x) r P n := h
theorem W2.wJ {M : gM} {r P : Nat → Nat} {c n b i : Nat} {x : Int64} (h : W2 M r P c n) : W2 (sJ M b i x) r P c n := h
theorem W1.wI {M : gM} {r P : Nat → Nat} {n b i : Nat} {x : Int32} (h : W1 M r P n) (h1 : r 34 ≠ b) (h2 : r 35 ≠ b) (h3 : r 36 ≠ b) : W1 (sI M b i x) r P n := fun s hs => ⟨(mI_ne (Or.inl h1)).trans (h s hs).1, (mI_ne (Or.inl h2)).trans (h s hs).2.1, (mI_ne (Or.inl h3)).trans (h s hs).2.2⟩
theorem W2.wI {M : gM} {r P : Nat → Nat} {c n b i : Nat} {x : Int32} (h : W2 M r P c n) (h1 : r 32 + 1 + c ≠ b ∨ n ≤ i) (h2 : r 33 + 1 + c ≠ b ∨ n ≤ i) : W2 (sI M b i x) r P c n := fun s hs => ⟨(mI_ne (h1.imp_right (fun z => by omega))).trans (h s hs).1, (mI_ne (h2.imp_right (fun z => by omega))).trans (h s hs).2⟩
theorem sh_m : ∀ k, k < 4 → ((1 : Int32) <<< (Int32.ofNat k &&& 31)) = Int32.ofNat (2 ^ k) := by decide
theorem p5_le {k : Nat} (h : k ≤ 3) : 5 ^ k ≤ 125 := by rcases (by omega : k = 0 ∨ k = 1 ∨ k = 2 ∨ k = 3) with rfl | rfl | rfl | rfl <;> decide
theorem p2_le {k : Nat} (h : k ≤ 3) : 2 ^ k ≤ 8 := by rcases (by omega : k = 0 ∨ k = 1 ∨ k = 2 ∨ k = 3) with rfl | rfl | rfl | rfl <;> decide
section MWAYS
variable {M : gM} {a o : Nat} {r ρ : Nat → Nat}
theorem m_findWays (h : LayM M a r ρ o) {x : Nat} {P : Nat → Nat} {Q : gM → Prop} (hx : x < 8) (hP : HsM M r x P) (hw : Wf P) (q : ∀ M', Fr ρ o M M' → Wy M' r P → Q M') : F_X3_findWays M a (Int32.ofNat x) Q := by
  have hk := hw.2.2.2.2.1
  have h5 := p5_le hk.2
  have h2 := p2_le hk.2
  -- the inmost: one state, one way
  have l168 : ∀ (K63 : Int32 → gM → Prop) (K134 : Int32 → gM → Prop) (c s : Nat), c < 8 → s < 5 ^ P 4 → (∀ N, Fr ρ o M N → W1 N r P (5 ^ P 4) → W3 N r P c → mJ N (r 31) c = Int64.ofNat (wtN P c (P 4)) → W2 N r P c (s + 1) → K134 (Int32.ofNat (s + 1)) N) →
      ∀ (e i g : Nat) (N : gM), i + e = P 4 → e < g → Fr ρ o M N → W1 N r P (5 ^ P 4) → W3 N r P c → mJ N (r 31) c = Int64.ofNat (wtN P c (P 4)) → W2 N r P c s → mI N (r 32 + 1 + c) s = Int32.ofNat (thN P c s i) → mI N (r 33 + 1 + c) s = Int32.ofNat (rfN P c s i) →
        F_X3_findWays_b168 Q K63 K134 a (Int32.ofNat x) (Int32.ofNat (P 4)) (Int32.ofNat c) (Int32.ofNat s) g (Int32.ofNat i) N := by
    intro K63 K134 c s hc hs hK e
    induction e with
    | zero =>
      intro i g N hi hg f w1 w3 wc w2 t1 t2
      obtain ⟨g, rfl⟩ : ∃ z, g = z + 1 := ⟨g - 1, by omega⟩
      refine bT (by rw [i32_le (by omega) (by omega)]; omega) ?_
      rw [i32_lit 1, i32_add]
      have hi : i = P 4 := by omega
      subst hi
      refine hK N f w1 w3 wc (fun s' hs' => ?_)
      by_cases e : s' = s
      · rw [e]; exact ⟨t1, t2⟩
      · exact w2 s' (by omega)
    | succ e ih =>
      intro i g N hi hg f w1 w3 wc w2 t1 t2
      obtain ⟨g, rfl⟩ : ∃ z, g = z + 1 := ⟨g - 1, by omega⟩
      have hN := f.lay h
      have hPN := f.hs h hx hP
      -- behind the two writes
      have go : ∀ (u v : Nat), u = (if bt c i = true ∧ dg s i ≠ 4 then 5 ^ i else 0) → v = (if bt c i = true ∧ dg s i = 4 then P (8 + 5 * i) else 0) → (F_X3_findWays_b168 Q K63 K134 a (Int32.ofNat x) (Int32.ofNat (P 4)) (Int32.ofNat c) (Int32.ofNat s) g) (Int32.ofNat i + (1 : Int32)) (sI (sI N (r 32 + 1 + c) s (Int32.ofNat (thN P c s i) + Int32.ofNat u)) (r 33 + 1 + c) s (Int32.ofNat (rfN P c s i) + Int32.ofNat v)) := by
        intro u v hu hv
        have n23 : r 32 + 1 + c ≠ r 33 + 1 + c := ne_tg (tg2 hN (k := 32) rfl hc) (tg2 hN (k := 33) rfl hc) (by omega)
        have n1 : ∀ k n ty, m1 k = some (ty, n) → k ≠ 32 → k ≠ 33 → r k ≠ r 32 + 1 + c ∧ r k ≠ r 33 + 1 + c := fun k n ty hk' e1 e2 => ⟨ne_tg (tg1 hN hk') (tg2 hN (k := 32) rfl hc) (by omega), ne_tg (tg1 hN hk') (tg2 hN (k := 33) rfl hc) (by omega)⟩
        rw [i32_lit 1, i32_add, i32_add, i32_add]
        refine ih (i + 1) g _ (by omega) (by omega) ((f.wI (sc2 hN (k := 32) rfl hc (by omega))).wI (sc2 hN (k := 33) rfl hc (by omega))) ?_ ?_ wc ?_ ?_ ?_
        · exact (w1.wI (n1 34 _ _ rfl (by omega) (by omega)).1 (n1 35 _ _ rfl (by omega) (by omega)).1 (n1 36 _ _ rfl (by omega) (by omega)).1).wI (n1 34 _ _ rfl (by omega) (by omega)).2 (n1 35 _ _ rfl (by omega) (by omega)).2 (n1 36 _ _ rfl (by omega) (by omega)).2
        · intro c' hc'
          have m23 : r 32 + 1 + c' ≠ r 33 + 1 + c := ne_tg (tg2 hN (k := 32) rfl (by omega)) (tg2 hN (k := 33) rfl hc) (by omega)
          have m32 : r 33 + 1 + c' ≠ r 32 + 1 + c := ne_tg (tg2 hN (k := 33) rfl (by omega)) (tg2 hN (k := 32) rfl hc) (by omega)
          exact ⟨(w3 c' hc').1, ((w3 c' hc').2.wI (Or.inl (by omega)) (Or.inl m32)).wI (Or.inl m23) (Or.inl (by omega))⟩
        · exact (w2.wI (Or.inr (Nat.le_refl _)) (Or.inr (Nat.le_refl _))).wI (Or.inr (Nat.le_refl _)) (Or.inr (Nat.le_refl _))
        · rw [mI_ne (Or.inl n23), mI_eq, hu]
          rfl
        · rw [mI_eq, hv]
          rfl
      refine bF (by rw [i32_le (by omega) (by omega)]; omega) ?_
      rw [bt_m c hc i (by omega)]
      have hdg : dg s i ≤ 4 := by unfold dg; omega
      have hP8 := (hw.2.2.2.2.2 i (by omega)).2.2.2.1
      refine ⟨fun cb => ?_, fun cb => ?_⟩
      · refine m_ofState (by omega) (by omega) ?_
        rw [i32_lit 4, i32_eq (by omega) (by omega)]
        have fin : ∀ t0 : Int32, F_X3_findWays_b206 Q K63 K134 (F_X3_findWays_b168 Q K63 K134 a (Int32.ofNat x) (Int32.ofNat (P 4)) (Int32.ofNat c) (Int32.ofNat s) g) a (Int32.ofNat x) (Int32.ofNat (P 4)) (Int32.ofNat c) (Int32.ofNat s) (Int32.ofNat i) (0 : Int32) t0 N := by
          intro t0
          refine m_g2 hN rfl (m_aN hN rfl hc (by omega) (m_bI hN rfl hc (by omega) (by omega) (bT rfl ?_)))
          rw [t1]
          unfold F_X3_findWays_b237 F_X3_findWays_b238
          refine m_vI hN rfl hc (by omega) (by omega) (m_g2 (hN.sI _ _ _) rfl (m_aN (hN.sI _ _ _) rfl hc (by omega) (m_bI (hN.sI _ _ _) rfl hc (by omega) (by omega) (bT rfl ?_))))
          rw [mI_ne (Or.inl (ne_tg (tg2 hN (k := 33) rfl hc) (tg2 hN (k := 32) rfl hc) (by omega))), t2]
          refine m_vI (hN.sI _ _ _) rfl hc (by omega) (by omega) ?_
          exact go 0 0 (by rw [if_neg (fun z => by rw [cb] at z; cases z.1)]) (by rw [if_neg (fun z => by rw [cb] at z; cases z.1)])
        exact ⟨fun _ => fin _, fun _ => fin _⟩
      · have cb' : bt c i = true := by simpa using cb
        refine m_ofState (by omega) (by omega) ?_
        rw [i32_lit 4, i32_eq (by omega) (by omega)]
        have n10 : ¬ (1 : Int32) = 0 := by decide
        refine ⟨fun c4 => ?_, fun c4 => ?_⟩
        · refine m_g2 hN rfl (m_aN hN rfl hc (by omega) (m_bI hN rfl hc (by omega) (by omega) (bF n10 (bF' rfl (m_power (b := 5) (by omega) ?_)))))
          rw [t1]
          refine m_vI hN rfl hc (by omega) (by omega) (m_g2 (hN.sI _ _ _) rfl (m_aN (hN.sI _ _ _) rfl hc (by omega) (m_bI (hN.sI _ _ _) rfl hc (by omega) (by omega) (bF n10 (bT rfl ?_)))))
          rw [mI_ne (Or.inl (ne_tg (tg2 hN (k := 33) rfl hc) (tg2 hN (k := 32) rfl hc) (by omega))), t2]
          refine m_vI (hN.sI _ _ _) rfl hc (by omega) (by omega) ?_
          exact go (5 ^ i) 0 (by rw [if_pos ⟨cb', c4⟩]) (by rw [if_neg (fun z => c4 z.2)])
        · refine m_g2 hN rfl (m_aN hN rfl hc (by omega) (m_bI hN rfl hc (by omega) (by omega) (bF n10 (bT' n10 ?_))))
          rw [t1]
          unfold F_X3_findWays_b237 F_X3_findWays_b238
          refine m_vI hN rfl hc (by omega) (by omega) (m_g2 (hN.sI _ _ _) rfl (m_aN (hN.sI _ _ _) rfl hc (by omega) (m_bI (hN.sI _ _ _) rfl hc (by omega) (by omega) (bF n10 (bF n10 (m_rc (hN.sI _ _ _) (m_numberOf (P := P) (w := 3) (hN.sI _ _ _) hx ?_ (by omega) (by omega) ?_)))))))
          · intro j hj
            rw [mI_ne (Or.inl (ne_tg (tg2 hN (k := 12) rfl hx) (tg2 hN (k := 32) rfl hc) (by omega)))]
            exact hPN j hj
          rw [mI_ne (Or.inl (ne_tg (tg2 hN (k := 33) rfl hc) (tg2 hN (k := 32) rfl hc) (by omega))), t2]
          refine m_vI (hN.sI _ _ _) rfl hc (by omega) (by omega) ?_
          exact go 0 (P (5 + 5 * i + 3)) (by rw [if_neg (fun z => z.2 c4)]) (by rw [if_pos ⟨cb', c4⟩, show 5 + 5 * i + 3 = 8 + 5 * i by omega])
  -- all states of one way
  have l134 : ∀ (K63 : Int32 → gM → Prop) (c : Nat), c < 8 → (∀ N, Fr ρ o M N → W1 N r P (5 ^ P 4) → W3 N r P (c + 1) → K63 (Int32.ofNat (c + 1)) N) →
      ∀ (e s g : Nat) (N : gM), s + e = 5 ^ P 4 → e < g → Fr ρ o M N → W1 N r P (5 ^ P 4) → W3 N r P c → mJ N (r 31) c = Int64.ofNat (wtN P c (P 4)) → W2 N r P c s → F_X3_findWays_b134 Q K63 a (Int32.ofNat x) (Int32.ofNat (P 4)) (Int32.ofNat c) g (Int32.ofNat s) N := by
    intro K63 c hc hK e
    induction e with
    | zero =>
      intro s g N hs hg f w1 w3 wc w2
      obtain ⟨g, rfl⟩ : ∃ z, g = z + 1 := ⟨g - 1, by omega⟩
      refine m_rc (f.lay h) (m_states (f.lay h) hx (f.hs h hx hP) hk.2 (bT (by rw [i32_le (by omega) (by omega)]; omega) ?_))
      rw [i32_lit 1, i32_add]
      refine hK N f w1 (fun c' hc' => ?_)
      by_cases e : c' = c
      · subst e
        have : s = 5 ^ P 4 := by omega
        rw [this] at w2
        exact ⟨wc, w2⟩
      · exact w3 c' (by omega)
    | succ e ih =>
      intro s g N hs hg f w1 w3 wc w2
      obtain ⟨g, rfl⟩ : ∃ z, g = z + 1 := ⟨g - 1, by omega⟩
      have hN := f.lay h
      refine m_rc hN (m_states hN hx (f.hs h hx hP) hk.2 (bF (by rw [i32_le (by omega) (by omega)]; omega) (m_g2 hN rfl (m_aN hN rfl hc (by omega) (m_vI hN rfl hc (by omega) (by omega) ?_)))))
      refine m_g2 (hN.sI _ _ _) rfl (m_aN (hN.sI _ _ _) rfl hc (by omega) (m_vI (hN.sI _ _ _) rfl hc (by omega) (by omega) ⟨P 4 + 1, ?_⟩))
      have n23 : r 32 + 1 + c ≠ r 33 + 1 + c := ne_tg (tg2 hN (k := 32) rfl hc) (tg2 hN (k := 33) rfl hc) (by omega)
      have n1 : ∀ k n ty, m1 k = some (ty, n) → k ≠ 32 → k ≠ 33 → r k ≠ r 32 + 1 + c ∧ r k ≠ r 33 + 1 + c := fun k n ty hk' e1 e2 => ⟨ne_tg (tg1 hN hk') (tg2 hN (k := 32) rfl hc) (by omega), ne_tg (tg1 hN hk') (tg2 hN (k := 33) rfl hc) (by omega)⟩
      refine l168 K63 _ c s hc (by omega) (fun N' f' w1' w3' wc' w2' => ih (s + 1) g N' (by omega) (by omega) f' w1' w3' wc' w2') (P 4) 0 (P 4 + 1) _ (by omega) (by omega) ((f.wI (sc2 hN (k := 32) rfl hc (by omega))).wI (sc2 hN (k := 33) rfl hc (by omega))) ?_ ?_ wc ?_ ?_ ?_
      · exact (w1.wI (n1 34 _ _ rfl (by omega) (by omega)).1 (n1 35 _ _ rfl (by omega) (by omega)).1 (n1 36 _ _ rfl (by omega) (by omega)).1).wI (n1 34 _ _ rfl (by omega) (by omega)).2 (n1 35 _ _ rfl (by omega) (by omega)).2 (n1 36 _ _ rfl (by omega) (by omega)).2
      · intro c' hc'
        have m23 : r 32 + 1 + c' ≠ r 33 + 1 + c := ne_tg (tg2 hN (k := 32) rfl (by omega)) (tg2 hN (k := 33) rfl hc) (by omega)
        have m32 : r 33 + 1 + c' ≠ r 32 + 1 + c := ne_tg (tg2 hN (k := 33) rfl (by omega)) (tg2 hN (k := 32) rfl hc) (by omega)
        exact ⟨(w3 c' hc').1, ((w3 c' hc').2.wI (Or.inl (by omega)) (Or.inl m32)).wI (Or.inl m23) (Or.inl (by omega))⟩
      · exact (w2.wI (Or.inr (Nat.le_refl _)) (Or.inr (Nat.le_refl _))).wI (Or.inr (Nat.le_refl _)) (Or.inr (Nat.le_refl _))
      · rw [mI_ne (Or.inl n23), mI_eq]
        rfl
      · rw [mI_eq]
        rfl
  -- the weight of one way, then its states
  have l80 : ∀ (K63 : Int32 → gM → Prop) (c : Nat), c < 8 → (∀ N, Fr ρ o M N → W1 N r P (5 ^ P 4) → W3 N r P (c + 1) → K63 (Int32.ofNat (c + 1)) N) →
      ∀ (e i g : Nat) (N : gM), i + e = P 4 → e < g → Fr ρ o M N → W1 N r P (5 ^ P 4) → W3 N r P c → mJ N (r 31) c = Int64.ofNat (wtN P c i) → F_X3_findWays_b80 Q K63 a (Int32.ofNat x) (Int32.ofNat (P 4)) (Int32.ofNat c) g (Int32.ofNat i) N := by
    intro K63 c hc hK e
    induction e with
    | zero =>
      intro i g N hi hg f w1 w3 wc
      obtain ⟨g, rfl⟩ : ∃ z, g = z + 1 := ⟨g - 1, by omega⟩
      have hi : i = P 4 := by omega
      subst hi
      refine bT (by rw [i32_le (by omega) (by omega)]; omega) ⟨5 ^ P 4 + 1, ?_⟩
      exact l134 K63 c hc hK (5 ^ P 4) 0 (5 ^ P 4 + 1) N (by omega) (by omega) f w1 w3 wc (fun s hs => absurd hs (Nat.not_lt_zero _))
    | succ e ih =>
      intro i g N hi hg f w1 w3 wc
      obtain ⟨g, rfl⟩ : ∃ z, g = z + 1 := ⟨g - 1, by omega⟩
      have hN := f.lay h
      have hP6 := (hw.2.2.2.2.2 i (by omega)).2.1
      refine bF (by rw [i32_le (by omega) (by omega)]; omega) (m_rc hN (m_numberOf (w := 1) hN hx (f.hs h hx hP) (by omega) (by omega) (m_g1 hN rfl (m_aJ hN rfl hc (by omega) ?_))))
      rw [wc, bt_m c hc i (by omega), show 5 + 5 * i + 1 = 6 + 5 * i by omega, i32_lit 4, i32_sub hP6, i64_of (by omega), i64_of (by omega)]
      have go : ∀ u, u = (if bt c i then P (6 + 5 * i) else 4 - P (6 + 5 * i)) → F_X3_findWays_b123 Q K63 (F_X3_findWays_b80 Q K63 a (Int32.ofNat x) (Int32.ofNat (P 4)) (Int32.ofNat c) g) a (Int32.ofNat x) (Int32.ofNat (P 4)) (Int32.ofNat c) (Int32.ofNat i) (r 31) (Int32.ofNat c) (Int64.ofNat (wtN P c i)) (Int64.ofNat u) N := by
        intro u hu
        refine m_uJ hN rfl hc (by omega) ?_
        rw [i32_lit 1, i32_add, i64_mul]
        refine ih (i + 1) g _ (by omega) (by omega) (f.wJ (sc1 hN (k := 31) rfl (by omega))) w1.wJ (fun c' hc' => ⟨(mJ_ne (Or.inr (by omega))).trans (w3 c' hc').1, (w3 c' hc').2.wJ⟩) ?_
        rw [mJ_eq, hu]
        rfl
      exact ⟨fun cb => go _ (by rw [cb]; rfl), fun cb => go _ (by rw [if_pos (by simpa using cb)])⟩
  have l63 : ∀ (e c g : Nat) (N : gM), c + e = 2 ^ P 4 → e < g → Fr ρ o M N → W1 N r P (5 ^ P 4) → W3 N r P c → F_X3_findWays_b63 Q a (Int32.ofNat x) (Int32.ofNat (P 4)) g (Int32.ofNat c) N := by
    intro e
    induction e with
    | zero =>
      intro c g N hc hg f w1 w3
      obtain ⟨g, rfl⟩ : ∃ z, g = z + 1 := ⟨g - 1, by omega⟩
      refine bT (by rw [sh_m _ (by omega), i32_le (by omega) (by omega)]; omega) (q N f ⟨w1, ?_⟩)
      rw [show 2 ^ P 4 = c by omega]
      exact w3
    | succ e ih =>
      intro c g N hc hg f w1 w3
      obtain ⟨g, rfl⟩ : ∃ z, g = z + 1 := ⟨g - 1, by omega⟩
      have hN := f.lay h
      refine bF (by rw [sh_m _ (by omega), i32_le (by omega) (by omega)]; omega) (m_g1 hN rfl (m_uJ hN rfl (by omega) (by omega) ⟨P 4 + 1, ?_⟩))
      exact l80 _ c (by omega) (fun N' f' w1' w3' => ih (c + 1) g N' (by omega) (by omega) f' w1' w3') (P 4) 0 (P 4 + 1) _ (by omega) (by omega) (f.wJ (sc1 hN (k := 31) rfl (by omega))) w1.wJ (fun c' hc' => ⟨(mJ_ne (Or.inr (by omega))).trans (w3 c' hc').1, (w3 c' hc').2.wJ⟩) mJ_eq
  have l8 : ∀ (e s g : Nat) (N : gM), s + e = 5 ^ P 4 → e < g → Fr ρ o M N → W1 N r P s → F_X3_findWays_b8 Q a (Int32.ofNat x) (Int32.ofNat (P 4)) g (Int32.ofNat s) N := by
    intro e
    induction e with
    | zero =>
      intro s g N hs hg f w1
      obtain ⟨g, rfl⟩ : ∃ z, g = z + 1 := ⟨g - 1, by omega⟩
      have hN := f.lay h
      refine m_rc hN (m_states hN hx (f.hs h hx hP) hk.2 (bT (by rw [i32_le (by omega) (by omega)]; omega) ⟨2 ^ P 4 + 1, ?_⟩))
      have hs : s = 5 ^ P 4 := by omega
      rw [hs] at w1
      exact l63 (2 ^ P 4) 0 (2 ^ P 4 + 1) N (by omega) (by omega) f w1 (fun c hc => absurd hc (Nat.not_lt_zero _))
    | succ e ih =>
      intro s g N hs hg f w1
      obtain ⟨g, rfl⟩ : ∃ z, g = z + 1 := ⟨g - 1, by omega⟩
      have hN := f.lay h
      have f1 := f.wI (x := Int32.ofNat (fl P s)) (sc1 hN (k := 34) (i := s) rfl (by omega))
      have f2 := f1.wI (x := Int32.ofNat (sm P 0 s)) (sc1 hN (k := 35) (i := s) rfl (by omega))
      have f3 := f2.wI (x := Int32.ofNat (sm P 2 s)) (sc1 hN (k := 36) (i := s) rfl (by omega))
      refine m_rc hN (m_states hN hx (f.hs h hx hP) hk.2 (bF (by rw [i32_le (by omega) (by omega)]; omega) (m_g1 hN rfl (m_rc hN (m_fillOf hN hx (f.hs h hx hP) hw (by omega) (m_uI hN rfl (by omega) (by omega) ?_))))))
      refine m_g1 (f1.lay h) rfl (m_rc (f1.lay h) (m_sum (w := 0) (f1.lay h) hx (f1.hs h hx hP) hk.2 (by omega) (by omega) (m_uI (f1.lay h) rfl (by omega) (by omega) ?_)))
      refine m_g1 (f2.lay h) rfl (m_rc (f2.lay h) (m_sum (w := 2) (f2.lay h) hx (f2.hs h hx hP) hk.2 (by omega) (by omega) (m_uI (f2.lay h) rfl (by omega) (by omega) ?_)))
      rw [i32_lit 1, i32_add]
      have d1 : r 34 ≠ r 35 := ne_tg (tg1 hN (k := 34) rfl) (tg1 hN (k := 35) rfl) (by omega)
      have d2 : r 34 ≠ r 36 := ne_tg (tg1 hN (k := 34) rfl) (tg1 hN (k := 36) rfl) (by omega)
      have d3 : r 35 ≠ r 36 := ne_tg (tg1 hN (k := 35) rfl) (tg1 hN (k := 36) rfl) (by omega)
      refine ih (s + 1) g _ (by omega) (by omega) f3 (fun s' hs' => ?_)
      by_cases e : s' = s
      · subst e
        refine ⟨?_, ?_, mI_eq⟩
        · rw [mI_ne (Or.inl d2), mI_ne (Or.inl d1), mI_eq]
        · rw [mI_ne (Or.inl d3), mI_eq]
      · obtain ⟨z1, z2, z3⟩ := w1 s' (by omega)
        refine ⟨?_, ?_, ?_⟩
        · rw [mI_ne (Or.inl d2), mI_ne (Or.inl d1), mI_ne (Or.inr e), z1]
        · rw [mI_ne (Or.inl d3), mI_ne (Or.inr e), mI_ne (Or.inl d1.symm), z2]
        · rw [mI_ne (Or.inr e), mI_ne (Or.inl d3.symm), mI_ne (Or.inl d2.symm), z3]
  exact m_rc h (m_sorts h hx hP ⟨5 ^ P 4 + 1, l8 (5 ^ P 4) 0 (5 ^ P 4 + 1) M (by omega) (by omega) Fr.rf (fun s hs => absurd hs (Nat.not_lt_zero _))⟩)
end MWAYS
