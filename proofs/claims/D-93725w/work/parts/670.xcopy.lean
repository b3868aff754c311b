/-! the class's houses: made, copied, joined -/
set_option maxRecDepth 100000
def S0 (_t _i : Nat) : Prop := False
/-- nothing is kept yet -/
def NoC (M : gM) (a : Nat) : Prop := (∀ k, 10 ≤ k → k ≤ 16 → mR M a k = none) ∧ mI M a 12 = 0
section XCOPY
variable {S : Nat → Nat → Prop} {M N N' : gM} {a b : Nat} {r rb ρ ρN P Pb : Nat → Nat}
theorem NoC.ca (h : NoC M a) : CaX M ρ a P := ⟨Or.inl (h.1 13 (by omega) (by omega)), Or.inl ⟨h.1 10 (by omega) (by omega), h.1 11 (by omega) (by omega)⟩, Or.inl h.2⟩
/-- what is only in new cells isn't seen -/
theorem Fx.fresh {F : Nat → Nat → Prop} (f : Fx S ρ M ρN N) (g : FmG F N N') (h : ∀ b i, F b i → kd M b = none) : Fx S ρ M ρN N' := ⟨g.1.2.2.trans f.1, fun c hc => by
  obtain ⟨⟨a1, a2⟩, a3⟩ := f.2 c hc
  refine ⟨⟨by rw [g.1.1]; exact a1, a2⟩, fun i z => ?_⟩
  have g1 := g.2 c i (fun y => hc (h c i y))
  have c1 := a3 i z
  exact ⟨g1.1.trans c1.1, g1.2.trans c1.2.1, by rw [g.1.2.1]; exact c1.2.2⟩⟩
theorem fx_R {q k : Nat} {x : Option Nat} (f : Fx S ρ M ρN N) (h : kd M q = none) : Fx S ρ M ρN (sR N q k x) := ⟨f.1, fun c hc => by
  obtain ⟨a1, a3⟩ := f.2 c hc
  have e : c ≠ q := fun e => hc (by rw [e]; exact h)
  exact ⟨a1, fun i z => ⟨(a3 i z).1, (a3 i z).2.1, (mR_ne (Or.inl e)).trans (a3 i z).2.2⟩⟩⟩
theorem fx_I {q k : Nat} {x : Int32} (f : Fx S ρ M ρN N) (h : kd M q = none) : Fx S ρ M ρN (sI N q k x) := f.fresh (FmG.sI (S := fun b _ => b = q) rfl) (fun b i e => by rw [e]; exact h)
theorem fx_N {q t : Nat} {k : Nat ⊕ (FieldType × Nat)} (f : Fx S ρ M ρN N) (hq : kd N q = none) : Fx S ρ M (upT ρN q t) (sN N q k) := by
  refine ⟨f.1, fun c hc => ?_⟩
  obtain ⟨⟨a1, a2⟩, a3⟩ := f.2 c hc
  have e : c ≠ q := fun e => hc (by rw [← a1, e]; exact hq)
  exact ⟨⟨(if_neg e).trans a1, (upT_ne e).trans a2⟩, fun i z => ⟨(if_neg e).trans (a3 i z).1, (if_neg e).trans (a3 i z).2.1, (if_neg e).trans (a3 i z).2.2⟩⟩
theorem fresh_of (f : Fx S ρ M ρN N) {q : Nat} (hq : kd N q = none) : kd M q = none := by
  cases e : kd M q with
  | none => rfl
  | some z =>
    have := (f.2 q (by rw [e]; exact fun z => by cases z)).1.1
    rw [hq, e] at this
    cases this
/-- one more row of a new house -/
theorem x_new0 {u v Lc Ls k : Nat} {κ : gM → Prop} (h0 : kd N a = some (true, .inl 12) ∧ ρN a = Tg a 63) (ha : kd M a = none) (hb : u + 1 ≤ Lc ∧ v + 3 ≤ Ls) (f : Fx S ρ M ρN N) (q : ∀ N' ρ' c, Fx S ρ M ρ' N' → (kd N' a = some (true, .inl 12) ∧ ρ' a = Tg a 63) → mR N' a k = some c → kd N' c = some (true, .inr (.int, 3)) → ρ' c = Tg a k → kd M c = none → (∀ j, mI N' c j = 0) → (∀ j, j ≠ k → mR N' a j = mR N a j) → (∀ j, mI N' a j = mI N a j) → (∀ z, kd N z ≠ none → kd N' z = kd N z ∧ ρ' z = ρN z) → κ N') : nA N u v Lc Ls .int (3 : Int32) 3 fun b M2 => pR M2 12 a k (some b) κ := by
  refine ⟨⟨by decide, by decide, by omega⟩, hb, fun c hq => ?_⟩
  have e : a ≠ c := fun e => by rw [← e, h0.1] at hq; cases hq
  have k0 : kd (sN N c (.inr (.int, 3))) a = some (true, .inl 12) := (if_neg e).trans h0.1
  have t0 : upT ρN c (Tg a k) a = Tg a 63 := (upT_ne e).trans h0.2
  refine ⟨k0, q _ (upT ρN c (Tg a k)) c (fx_R (fx_N f hq) ha) ⟨k0, t0⟩ mR_eq (if_pos rfl) (upT_eq _ _ _) (fresh_of f hq) (fun j => if_pos rfl) (fun j hj => (mR_ne (Or.inr hj)).trans (if_neg e)) (fun j => if_neg e) (fun z hz => ?_)⟩
  have ez : z ≠ c := fun ez => hz (by rw [ez]; exact hq)
  exact ⟨if_neg ez, upT_ne ez⟩
theorem x_hinit {Lc Ls : Nat} {Q : gM → Prop} (f : Fx S ρ M ρN N) (ha : kd M a = none) (h0 : kd N a = some (true, .inl 12) ∧ ρN a = Tg a 63) (hz : (∀ i, mI N a i = 0) ∧ ∀ i, mR N a i = none) (hL : 5 ≤ Lc ∧ 15 ≤ Ls) (q : ∀ N' ρ' r, Fx S ρ M ρ' N' → HsX N' ρ' a r P0 → NoC N' a → (∀ w, w < 5 → kd M (r w) = none) → (∀ z, kd N z ≠ none → kd N' z = kd N z ∧ ρ' z = ρN z) → Q N') : F_X12_init Lc Ls N a Q := by
  refine ⟨h0.1, h0.1, h0.1, ?_⟩
  have f3 := fx_I (k := 2) (x := (10 : Int32)) (fx_I (k := 1) (x := (10 : Int32)) (fx_I (k := 0) (x := (3 : Int32)) f ha) ha) ha
  refine x_new0 (k := 5) h0 ha (by omega) f3 (fun N1 ρ1 c1 f1 h1 r1 k1 t1 n1 z1 s1 i1 l1 => ?_)
  refine x_new0 (k := 6) h1 ha (by omega) f1 (fun N2 ρ2 c2 f2 h2 r2 k2 t2 n2 z2 s2 i2 l2 => ?_)
  refine x_new0 (k := 7) h2 ha (by omega) f2 (fun N3 ρ3 c3 f3 h3 r3 k3 t3 n3 z3 s3 i3 l3 => ?_)
  refine x_new0 (k := 8) h3 ha (by omega) f3 (fun N4 ρ4 c4 f4 h4 r4 k4 t4 n4 z4 s4 i4 l4 => ?_)
  refine x_new0 (k := 9) h4 ha (by omega) f4 (fun N5 ρ5 c5 f5 h5 r5 k5 t5 n5 z5 s5 i5 l5 => ?_)
  have li : ∀ {z}, kd N z ≠ none → kd N5 z = kd N z ∧ ρ5 z = ρN z := fun {z} hz => by
    have a1 := l1 z hz
    have a2 := l2 z (by rw [a1.1]; exact hz)
    have a3 := l3 z (by rw [a2.1, a1.1]; exact hz)
    have a4 := l4 z (by rw [a3.1, a2.1, a1.1]; exact hz)
    have a5 := l5 z (by rw [a4.1, a3.1, a2.1, a1.1]; exact hz)
    exact ⟨a5.1.trans (a4.1.trans (a3.1.trans (a2.1.trans a1.1))), a5.2.trans (a4.2.trans (a3.2.trans (a2.2.trans a1.2)))⟩
  have fi : ∀ j, mI N5 a j = mI (sI (sI (sI N a 0 (3 : Int32)) a 1 (10 : Int32)) a 2 (10 : Int32)) a j := fun j => (i5 j).trans ((i4 j).trans ((i3 j).trans ((i2 j).trans (i1 j))))
  have fr : ∀ j, j ≠ 5 → j ≠ 6 → j ≠ 7 → j ≠ 8 → j ≠ 9 → mR N5 a j = none := fun j a1 a2 a3 a4 a5 => (s5 j a5).trans ((s4 j a4).trans ((s3 j a3).trans ((s2 j a2).trans ((s1 j a1).trans (hz.2 j)))))
  refine q N5 ρ5 (fun w => if w = 0 then c1 else if w = 1 then c2 else if w = 2 then c3 else if w = 3 then c4 else c5) f5 ⟨h5, fun i hi => ?_, fun w hw => ?_⟩ ⟨fun k h1 h2 => fr k (by omega) (by omega) (by omega) (by omega) (by omega), ?_⟩ (fun w hw => ?_) (fun z hz => li hz)
  · rw [fi i]
    rcases (by omega : i = 0 ∨ i = 1 ∨ i = 2 ∨ i = 3 ∨ i = 4) with rfl | rfl | rfl | rfl | rfl
    · rw [mI_ne (Or.inr (by omega)), mI_ne (Or.inr (by omega)), mI_eq]; rfl
    · rw [mI_ne (Or.inr (by omega)), mI_eq]; rfl
    · rw [mI_eq]; rfl
    · rw [mI_ne (Or.inr (by omega)), mI_ne (Or.inr (by omega)), mI_ne (Or.inr (by omega)), hz.1]; rfl
    · rw [mI_ne (Or.inr (by omega)), mI_ne (Or.inr (by omega)), mI_ne (Or.inr (by omega)), hz.1]; rfl
  · have lz : ∀ {z}, kd N1 z ≠ none → kd N5 z = kd N1 z ∧ ρ5 z = ρ1 z := fun {z} hz => by
      have a2 := l2 z hz
      have a3 := l3 z (by rw [a2.1]; exact hz)
      have a4 := l4 z (by rw [a3.1, a2.1]; exact hz)
      have a5 := l5 z (by rw [a4.1, a3.1, a2.1]; exact hz)
      exact ⟨a5.1.trans (a4.1.trans (a3.1.trans a2.1)), a5.2.trans (a4.2.trans (a3.2.trans a2.2))⟩
    have no : ∀ i, i < P0 4 → False := fun i hi => absurd hi (by show ¬ i < 0; omega)
    rcases (by omega : w = 0 ∨ w = 1 ∨ w = 2 ∨ w = 3 ∨ w = 4) with rfl | rfl | rfl | rfl | rfl
    · have := lz (live_of k1)
      exact ⟨(s5 5 (by omega)).trans ((s4 5 (by omega)).trans ((s3 5 (by omega)).trans ((s2 5 (by omega)).trans r1))), ⟨this.1.trans k1, this.2.trans t1⟩, fun i hi => (no i hi).elim⟩
    · have a3 := l3 c2 (live_of k2)
      have a4 := l4 c2 (by rw [a3.1]; exact live_of k2)
      have a5 := l5 c2 (by rw [a4.1, a3.1]; exact live_of k2)
      exact ⟨(s5 6 (by omega)).trans ((s4 6 (by omega)).trans ((s3 6 (by omega)).trans r2)), ⟨a5.1.trans (a4.1.trans (a3.1.trans k2)), a5.2.trans (a4.2.trans (a3.2.trans t2))⟩, fun i hi => (no i hi).elim⟩
    · have a4 := l4 c3 (live_of k3)
      have a5 := l5 c3 (by rw [a4.1]; exact live_of k3)
      exact ⟨(s5 7 (by omega)).trans ((s4 7 (by omega)).trans r3), ⟨a5.1.trans (a4.1.trans k3), a5.2.trans (a4.2.trans t3)⟩, fun i hi => (no i hi).elim⟩
    · have a5 := l5 c4 (live_of k4)
      exact ⟨(s5 8 (by omega)).trans r4, ⟨a5.1.trans k4, a5.2.trans t4⟩, fun i hi => (no i hi).elim⟩
    · exact ⟨r5, ⟨k5, t5⟩, fun i hi => (no i hi).elim⟩
  · rw [fi 12, mI_ne (Or.inr (by omega)), mI_ne (Or.inr (by omega)), mI_ne (Or.inr (by omega))]
    exact hz.1 12
  · rcases (by omega : w = 0 ∨ w = 1 ∨ w = 2 ∨ w = 3 ∨ w = 4) with rfl | rfl | rfl | rfl | rfl
    · exact n1
    · exact n2
    · exact n3
    · exact n4
    · exact n5
/-- the places of a house's numbers -/
def SHn (a : Nat) (r : Nat → Nat) (c i : Nat) : Prop := (c = a ∧ i < 5) ∨ ∃ w, w < 5 ∧ c = r w
theorem hs_ne (h : HsX N ρN a r P) (hb : HsX N ρN b rb Pb) (hab : a ≠ b) : (∀ w, w < 5 → r w ≠ b ∧ rb w ≠ a) ∧ ∀ w w', w < 5 → w' < 5 → r w ≠ rb w' := by
  refine ⟨fun w hw => ⟨fun e => ?_, fun e => ?_⟩, fun w w' hw hw' e => ?_⟩
  · have := (h.2.2 w hw).2.1.2
    rw [e, hb.1.2] at this
    have := (Tg_inj (by omega) (by omega) this).2
    omega
  · have := (hb.2.2 w hw).2.1.2
    rw [e, h.1.2] at this
    have := (Tg_inj (by omega) (by omega) this).2
    omega
  · have h1 := (h.2.2 w hw).2.1.2
    rw [e, (hb.2.2 w' hw').2.1.2] at h1
    exact hab (Tg_inj (by omega) (by omega) h1).1.symm
theorem r_ne (h : HsX N ρN a r P) : (∀ w, w < 5 → r w ≠ a) ∧ ∀ w w', w < 5 → w' < 5 → w ≠ w' → r w ≠ r w' := by
  refine ⟨fun w hw e => ?_, fun w w' hw hw' hn e => ?_⟩
  · have := (h.2.2 w hw).2.1.2
    rw [e, h.1.2] at this
    have := (Tg_inj (by omega) (by omega) this).2
    omega
  · have h1 := (h.2.2 w hw).2.1.2
    rw [e, (h.2.2 w' hw').2.1.2] at h1
    have := (Tg_inj (by omega) (by omega) h1).2
    omega
theorem x_takes {Pn : Nat → Nat} {i : Nat} (h : HsX N ρN a r P) (hb : HsX N ρN b rb Pb) (hab : a ≠ b) (hk : P 4 < 3) (hkb : Pb 4 ≤ 3) (hi : i < Pb 4) {Q : gM → Prop} (e4 : Pn 4 = P 4 + 1) (e0 : ∀ j, j < 4 → Pn j = P j) (e1 : ∀ j w, j < P 4 → w < 5 → Pn (5 + 5 * j + w) = P (5 + 5 * j + w)) (e2 : ∀ w, w < 5 → Pn (5 + 5 * P 4 + w) = Pb (5 + 5 * i + w)) (q : ∀ N', FmG (SHn a r) N N' → HsX N' ρN a r Pn → (∀ k, 10 ≤ k → mI N' a k = mI N a k) → Q N') : F_X12_takes N a b (Int32.ofNat i) Q := by
  obtain ⟨n1, n2⟩ := hs_ne h hb hab
  obtain ⟨m1, m2⟩ := r_ne h
  have ba := hab.symm
  -- the state behind w rows
  have st : ∀ (w : Nat) (N' : gM), w < 5 → FmG (SHn a r) N N' → mI N' a 4 = Int32.ofNat (P 4) → ∀ κ : gM → Prop, κ (sI N' (r w) (P 4) (Int32.ofNat (Pb (5 + 5 * i + w)))) → gN N' 12 a (5 + w) fun a_1 => gI N' 12 a 4 fun x_2 => gN N' 12 b (5 + w) fun a_3 => aI N' .int a_3 (Int32.ofNat i) fun x_4 => uI N' a_1 x_2 x_4 κ := by
    intro w N' hw f h4 κ hκ
    have ka : kd N' a = some (true, .inl 12) := by rw [f.1.1]; exact h.1.1
    have kb : kd N' b = some (true, .inl 12) := by rw [f.1.1]; exact hb.1.1
    refine gN_i ka (by rw [f.1.2.1]; exact (h.2.2 w hw).1) (gI_i ka (gN_i kb (by rw [f.1.2.1]; exact (hb.2.2 w hw).1) (aI_i (by rw [f.1.1]; exact (hb.2.2 w hw).2.1.1) (by omega) (by omega) ?_)))
    rw [h4, (f.2 (rb w) i (by
      rintro (⟨e, -⟩ | ⟨w', hw', e⟩)
      · exact (n1 w hw).2 e
      · exact n2 w' w hw' hw e.symm)).1, (hb.2.2 w hw).2.2 i hi]
    exact uI_i (by rw [f.1.1]; exact (h.2.2 w hw).2.1.1) (by omega) (by omega) hκ
  have S4 : ∀ {w j : Nat}, w < 5 → SHn a r (r w) j := fun hw => Or.inr ⟨_, hw, rfl⟩
  have v4 := h.2.1 4 (by omega)
  have k4 : ∀ {w : Nat} {N' : gM} {x : Int32}, w < 5 → mI N' a 4 = Int32.ofNat (P 4) → mI (sI N' (r w) (P 4) x) a 4 = Int32.ofNat (P 4) := fun hw z => (mI_ne (Or.inl (m1 _ hw).symm)).trans z
  have f1 : FmG (SHn a r) N (sI N (r 0) (P 4) (Int32.ofNat (Pb (5 + 5 * i + 0)))) := FmG.sI (S4 (by omega))
  have f2 := f1.tr (FmG.sI (x := Int32.ofNat (Pb (5 + 5 * i + 1))) (i := P 4) (S4 (w := 1) (by omega)))
  have f3 := f2.tr (FmG.sI (x := Int32.ofNat (Pb (5 + 5 * i + 2))) (i := P 4) (S4 (w := 2) (by omega)))
  have f4 := f3.tr (FmG.sI (x := Int32.ofNat (Pb (5 + 5 * i + 3))) (i := P 4) (S4 (w := 3) (by omega)))
  have f5 := f4.tr (FmG.sI (x := Int32.ofNat (Pb (5 + 5 * i + 4))) (i := P 4) (S4 (w := 4) (by omega)))
  refine st 0 N (by omega) FmG.rf v4 _ (st 1 _ (by omega) f1 (k4 (by omega) v4) _ (st 2 _ (by omega) f2 (k4 (by omega) (k4 (by omega) v4)) _ (st 3 _ (by omega) f3 (k4 (by omega) (k4 (by omega) (k4 (by omega) v4))) _ (st 4 _ (by omega) f4 (k4 (by omega) (k4 (by omega) (k4 (by omega) (k4 (by omega) v4)))) _ ?_))))
  have v5 := k4 (w := 4) (x := Int32.ofNat (Pb (5 + 5 * i + 4))) (by omega) (k4 (w := 3) (x := Int32.ofNat (Pb (5 + 5 * i + 3))) (by omega) (k4 (w := 2) (x := Int32.ofNat (Pb (5 + 5 * i + 2))) (by omega) (k4 (w := 1) (x := Int32.ofNat (Pb (5 + 5 * i + 1))) (by omega) (k4 (w := 0) (x := Int32.ofNat (Pb (5 + 5 * i + 0))) (by omega) v4))))
  have rv : ∀ w j, w < 5 → mI (sI (sI (sI (sI (sI N (r 0) (P 4) (Int32.ofNat (Pb (5 + 5 * i + 0)))) (r 1) (P 4) (Int32.ofNat (Pb (5 + 5 * i + 1)))) (r 2) (P 4) (Int32.ofNat (Pb (5 + 5 * i + 2)))) (r 3) (P 4) (Int32.ofNat (Pb (5 + 5 * i + 3)))) (r 4) (P 4) (Int32.ofNat (Pb (5 + 5 * i + 4)))) (r w) j = if j = P 4 then Int32.ofNat (Pb (5 + 5 * i + w)) else mI N (r w) j := fun w j hw => by
    by_cases c : j = P 4
    · rw [if_pos c, c]
      rcases (by omega : w = 0 ∨ w = 1 ∨ w = 2 ∨ w = 3 ∨ w = 4) with rfl | rfl | rfl | rfl | rfl
      · rw [mI_ne (Or.inl (m2 _ _ (by omega) (by omega) (by omega))), mI_ne (Or.inl (m2 _ _ (by omega) (by omega) (by omega))), mI_ne (Or.inl (m2 _ _ (by omega) (by omega) (by omega))), mI_ne (Or.inl (m2 _ _ (by omega) (by omega) (by omega))), mI_eq]
      · rw [mI_ne (Or.inl (m2 _ _ (by omega) (by omega) (by omega))), mI_ne (Or.inl (m2 _ _ (by omega) (by omega) (by omega))), mI_ne (Or.inl (m2 _ _ (by omega) (by omega) (by omega))), mI_eq]
      · rw [mI_ne (Or.inl (m2 _ _ (by omega) (by omega) (by omega))), mI_ne (Or.inl (m2 _ _ (by omega) (by omega) (by omega))), mI_eq]
      · rw [mI_ne (Or.inl (m2 _ _ (by omega) (by omega) (by omega))), mI_eq]
      · rw [mI_eq]
    · rw [if_neg c, mI_ne (Or.inr c), mI_ne (Or.inr c), mI_ne (Or.inr c), mI_ne (Or.inr c), mI_ne (Or.inr c)]
  have av : ∀ j, mI (sI (sI (sI (sI (sI N (r 0) (P 4) (Int32.ofNat (Pb (5 + 5 * i + 0)))) (r 1) (P 4) (Int32.ofNat (Pb (5 + 5 * i + 1)))) (r 2) (P 4) (Int32.ofNat (Pb (5 + 5 * i + 2)))) (r 3) (P 4) (Int32.ofNat (Pb (5 + 5 * i + 3)))) (r 4) (P 4) (Int32.ofNat (Pb (5 + 5 * i + 4)))) a j = mI N a j := fun j => by
    rw [mI_ne (Or.inl (m1 4 (by omega)).symm), mI_ne (Or.inl (m1 3 (by omega)).symm), mI_ne (Or.inl (m1 2 (by omega)).symm), mI_ne (Or.inl (m1 1 (by omega)).symm), mI_ne (Or.inl (m1 0 (by omega)).symm)]
  generalize sI (sI (sI (sI (sI N (r 0) (P 4) (Int32.ofNat (Pb (5 + 5 * i + 0)))) (r 1) (P 4) (Int32.ofNat (Pb (5 + 5 * i + 1)))) (r 2) (P 4) (Int32.ofNat (Pb (5 + 5 * i + 2)))) (r 3) (P 4) (Int32.ofNat (Pb (5 + 5 * i + 3)))) (r 4) (P 4) (Int32.ofNat (Pb (5 + 5 * i + 4))) = N5 at f5 v5 rv av ⊢
  have k5 : kd N5 a = some (true, .inl 12) := by rw [f5.1.1]; exact h.1.1
  refine gI_i k5 ⟨k5, ?_⟩
  rw [v5, i32_lit 1, i32_add]
  refine q _ (f5.tr (FmG.sI (Or.inl ⟨rfl, by omega⟩))) ⟨⟨k5, h.1.2⟩, fun j hj => ?_, fun w hw => ⟨?_, ?_, fun j hj => ?_⟩⟩ (fun k hk' => (mI_ne (Or.inr (by omega))).trans (av k))
  · by_cases c : j = 4
    · rw [c, mI_eq, e4]
    · rw [mI_ne (Or.inr c), av j, h.2.1 j hj, e0 j (by omega)]
  · show mR N5 a (5 + w) = _
    rw [f5.1.2.1]
    exact (h.2.2 w hw).1
  · show kd N5 (r w) = _ ∧ _
    rw [f5.1.1]
    exact (h.2.2 w hw).2.1
  · rw [mI_ne (Or.inl (m1 w hw)), rv w j hw]
    rw [e4] at hj
    by_cases c : j = P 4
    · rw [if_pos c, c, e2 w hw]
    · rw [if_neg c, (h.2.2 w hw).2.2 j (by omega), e1 j w (by omega) hw]
end XCOPY
