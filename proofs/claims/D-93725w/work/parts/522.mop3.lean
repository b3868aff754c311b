/-! the model's operations: rules, texts -/
set_option maxRecDepth 100000
section MOP3
variable {M : gM} {a : Nat} {r ρ : Nat → Nat} {A : Ab}
theorem m_mayBy {k : Nat} {x : Int32} {Q : Int32 → gM → Prop} (hk : 1 ≤ k ∧ k ≤ 5) (h1 : ∀ c, byOf k x = some c → Q 1 M) (h0 : byOf k x = none → Q 0 M) : F_X3_mayBy M (Int32.ofNat k) x Q := by
  unfold F_X3_mayBy
  rw [i32_toInt (by omega), i32_lit 1, i32_lit 2, i32_lit 3, i32_lit 4, i32_eq (by omega) (by omega), i32_eq (by omega) (by omega), i32_eq (by omega) (by omega), i32_eq (by omega) (by omega)]
  rcases (by omega : k = 1 ∨ k = 2 ∨ k = 3 ∨ k = 4 ∨ k = 5) with rfl | rfl | rfl | rfl | rfl
  · exact ⟨fun z => by omega, fun _ => m_inD (n := 99) (by omega) (fun s e => ⟨Or.inr rfl, h1 s e⟩) (fun e => ⟨Or.inl rfl, h0 e⟩), fun z => by omega, fun z => by omega, fun z => by omega⟩
  · refine ⟨fun z => by omega, fun z => by omega, fun _ => m_in1 (n := 6) (by omega) (fun s e hs => ⟨Or.inr rfl, h1 s ?_⟩) (fun e => ⟨Or.inl rfl, h0 ?_⟩), fun z => by omega, fun z => by omega⟩
    · show (match dec 7 x with | some a => if 1 ≤ a then some a else none | none => none) = _
      rw [e]
      exact if_pos hs
    · show (match dec 7 x with | some a => if 1 ≤ a then some a else none | none => none) = _
      cases e2 : dec 7 x with
      | none => rfl
      | some s => have := e s e2; exact if_neg (by omega)
  · refine ⟨fun z => by omega, fun z => by omega, fun z => by omega, fun _ => ?_, fun z => by omega⟩
    have e0 : byOf 3 x = match dec 1000 x with | some a => if 1 ≤ a % 10 ∧ a % 10 ≤ 6 then some a else none | none => none := rfl
    refine ⟨fun c => h0 ?_, fun c => ?_⟩
    · rw [e0, dec_no (fun s hs e => by rw [e] at c; exact i32_lt0 (by omega) c)]
    obtain ⟨s, hs, es⟩ := i32_of c
    rw [es, i32_lit 10, i32_div hs (by omega)]
    refine m_inD (n := 99) (by omega) (fun t e => bF n10 ?_) (fun e => bT rfl (h0 ?_))
    · have dt := dec_some e
      rw [i32_eq (by omega) (by omega)] at dt
      have ed : dec 1000 x = some s := by rw [es]; exact dec_of (by omega) (by omega)
      rw [i32_mul, i32_sub (by omega), show s - s / 10 * 10 = s % 10 by omega]
      refine m_in1 (n := 6) (by omega) (fun v ev hv => bF n10 (h1 s ?_)) (fun ev => bT rfl (h0 ?_))
      · have dv := dec_some ev
        rw [i32_eq (by omega) (by omega)] at dv
        rw [e0, ed]
        exact if_pos (by omega)
      · rw [e0, ed]
        refine if_neg (fun z => ?_)
        have := ev (s % 10) (dec_of (by omega) (by omega))
        omega
    · rw [e0, dec_no (fun v hv ev => ?_)]
      rw [es, i32_eq hs (by omega)] at ev
      exact dec_none e (s := s / 10) (by omega) (by omega) rfl
  · exact ⟨fun z => by omega, fun z => by omega, fun z => by omega, fun z => by omega, fun _ => h1 0 rfl⟩
  · exact ⟨fun _ => m_inD (n := 7) (by omega) (fun s e => ⟨Or.inr rfl, h1 s e⟩) (fun e => ⟨Or.inl rfl, h0 e⟩), fun z => by omega, fun z => by omega, fun z => by omega, fun z => by omega⟩
/-- the number that a rule has -/
theorem byOf_ok {k c : Nat} {x : Int32} (hk : 1 ≤ k ∧ k ≤ 5) (e : byOf k x = some c) : (k ≠ 4 → x = Int32.ofNat c) ∧ (k = 1 → c ≤ 99) ∧ (k = 2 → 1 ≤ c ∧ c ≤ 6) ∧ (k = 3 → c ≤ 999 ∧ 1 ≤ c % 10 ∧ c % 10 ≤ 6) ∧ (k = 5 → c < 8) := by
  rcases (by omega : k = 1 ∨ k = 2 ∨ k = 3 ∨ k = 4 ∨ k = 5) with rfl | rfl | rfl | rfl | rfl
  · have d := dec_some (n := 100) e
    exact ⟨fun _ => d.2.1, fun _ => by omega, fun z => by omega, fun z => by omega, fun z => by omega⟩
  · have e : (match dec 7 x with | some a => if 1 ≤ a then some a else none | none => none) = some c := e
    cases e2 : dec 7 x with
    | none => rw [e2] at e; cases e
    | some s =>
      rw [e2] at e
      simp only at e
      split at e
      · cases e
        have d := dec_some e2
        exact ⟨fun _ => d.2.1, fun z => by omega, fun _ => by omega, fun z => by omega, fun z => by omega⟩
      · cases e
  · have e : (match dec 1000 x with | some a => if 1 ≤ a % 10 ∧ a % 10 ≤ 6 then some a else none | none => none) = some c := e
    cases e2 : dec 1000 x with
    | none => rw [e2] at e; cases e
    | some s =>
      rw [e2] at e
      simp only at e
      split at e
      · cases e
        have d := dec_some e2
        exact ⟨fun _ => d.2.1, fun z => by omega, fun z => by omega, fun _ => by omega, fun z => by omega⟩
      · cases e
  · exact ⟨fun z => absurd rfl z, fun z => by omega, fun z => by omega, fun z => by omega, fun z => by omega⟩
  · have d := dec_some (n := 8) e
    exact ⟨fun _ => d.2.1, fun z => by omega, fun z => by omega, fun z => by omega, fun _ => d.1⟩
theorem m_rule (R : MRel M a r ρ A) {x1 x2 x3 : Int32} {Q : Int32 → gM → Prop} (q : Km (spRule A x1 x2 x3) a ρ M Q) : F_X3_rule M a x1 x2 x3 Q := by
  have h := R.1
  refine m_inD (n := 7) (by omega) (fun s e1 => bF n10 ?_) (fun e1 => bT rfl (m_bad R (by unfold spRule; rw [e1]) q))
  have d1 := dec_some e1
  refine m_in1 (n := 5) (by omega) (fun k e2 hk1 => bF n10 ?_) (fun e2 => bT rfl (m_bad R (by
    unfold spRule
    rw [e1]
    cases e3 : dec 6 x2 with
    | none => rfl
    | some k => exact if_pos (e2 k e3)) q))
  have d2 := dec_some e2
  have hk : 1 ≤ k ∧ k ≤ 5 := by omega
  have es0 : spRule A x1 x2 x3 = match byOf k x3 with
    | none => rj A 2
    | some c => if k = 5 then (match aSh A c with
        | some (.inr _) => rj A 3
        | none => rj A 4
        | some (.inl (_, n, f)) => (1, sSh A s (some (.inr ((5, 0, fun i => decide (i < n ∧ f i ≠ 0)), n)))))
      else (1, sSh A s (some (.inr ((k, c, fun _ => false), 0)))) := by
    unfold spRule
    rw [e1, e2]
    exact if_neg (by omega)
  rw [d1.2.1, d2.2.1]
  refine m_mayBy hk (fun c e3 => bT' n10 ?_) (fun e3 => bF' rfl (m_bad R (by rw [es0, e3]) q))
  obtain ⟨b0, b1, b2, b3, b5⟩ := byOf_ok hk e3
  rw [e3] at es0
  simp only at es0
  have n05 : r 0 ≠ r 5 := ne_tg (tg1 h (k := 0) rfl) (tg1 h (k := 5) rfl) (by omega)
  have n06 : r 0 ≠ r 6 := ne_tg (tg1 h (k := 0) rfl) (tg1 h (k := 6) rfl) (by omega)
  have n56 : r 5 ≠ r 6 := ne_tg (tg1 h (k := 5) rfl) (tg1 h (k := 6) rfl) (by omega)
  have n220 : r 22 ≠ r 0 := ne_tg (tg1 h (k := 22) rfl) (tg1 h (k := 0) rfl) (by omega)
  have n225 : r 22 ≠ r 5 := ne_tg (tg1 h (k := 22) rfl) (tg1 h (k := 5) rfl) (by omega)
  have n226 : r 22 ≠ r 6 := ne_tg (tg1 h (k := 22) rfl) (tg1 h (k := 6) rfl) (by omega)
  -- the last three writes
  have fin : ∀ N u n, spRule A x1 x2 x3 = (1, sSh A s (some (.inr (u, n)))) → u.1 = k → WfR u → (k ≤ 3 → u.2.1 = c) → n ≤ 125 → FmG (fun b i => SSh r ρ b i ∧ (((b = r 0 ∨ b = r 1 ∨ b = r 2 ∨ b = r 5 ∨ b = r 6 ∨ b = r 22) → i = s) ∧ (∀ t, t < 8 → t ≠ s → b ≠ r 3 + 1 + t ∧ b ≠ r 7 + 1 + t))) M N → (k = 5 → (∀ i, i < 125 → mI N (r 7 + 1 + s) i = if u.2.2 i then 1 else 0) ∧ mI N (r 22) s = Int32.ofNat n) → F_X3_rule_b144 Q a (Int32.ofNat s) (Int32.ofNat k) x3 N := by
    intro N u n e u1 wu u2 hn f h5
    have hN := f.lay h
    refine m_g1 hN rfl (m_uI hN rfl d1.1 (by omega) (m_g1 (hN.sI _ _ _) rfl (m_uI (hN.sI _ _ _) rfl (by omega) (by omega) (m_g1 ((hN.sI _ _ _).sI _ _ _) rfl (m_uI ((hN.sI _ _ _).sI _ _ _) rfl (by omega) (by omega) ?_)))))
    rw [e] at q
    have t7 := tg2 h (k := 7) (j := s) rfl (by omega)
    have hv : ShM (sI (sI (sI N (r 0) s (2 : Int32)) (r 5) s (Int32.ofNat k)) (r 6) s x3) r s (some (.inr (u, n))) := by
      refine ⟨(mI_ne (Or.inl n06)).trans ((mI_ne (Or.inl n05)).trans mI_eq), ⟨?_, fun z => ?_, fun z i hi => ?_⟩, wu, fun z => ?_, hn⟩
      · rw [u1]; exact (mI_ne (Or.inl n56)).trans mI_eq
      · rw [mI_eq, u2 (by omega)]; exact b0 (by omega)
      · rw [mI_ne (Or.inl (ne_tg t7 (tg1 h (k := 6) rfl) (by omega))), mI_ne (Or.inl (ne_tg t7 (tg1 h (k := 5) rfl) (by omega))), mI_ne (Or.inl (ne_tg t7 (tg1 h (k := 0) rfl) (by omega)))]
        exact (h5 (by omega)).1 i hi
      · rw [mI_ne (Or.inl n226), mI_ne (Or.inl n225), mI_ne (Or.inl n220)]
        exact (h5 (by omega)).2
    obtain ⟨R', f9⟩ := R.sh1 (s := s) (v := some (.inr (u, n))) (((f.tr (FmG.sI (x := (2 : Int32)) (ssh1 (k := 0) h d1.1 (by omega)))).tr (FmG.sI (x := Int32.ofNat k) (ssh1 (k := 5) h d1.1 (by omega)))).tr (FmG.sI (x := x3) (ssh1 (k := 6) h d1.1 (by omega)))) hv
    exact q _ r ρ R' f9
  refine eqS' (b := 5) (by omega) (by omega) (fun c5 => ?_) (fun c5 => ?_)
  · rw [if_neg c5] at es0
    exact fin M _ _ es0 rfl ⟨hk, fun z => b1 z, fun z => b2 z, fun z => b3 z⟩ (fun _ => rfl) (by omega) FmG.rf (fun z => absurd z c5)
  · rw [if_pos c5] at es0
    have hc := b5 c5
    have hsh := R.2.2.1 c hc
    rw [b0 (by omega)]
    refine m_g1 h rfl (m_aI h rfl hc (by omega) ?_)
    cases ev : aSh A c with
    | none =>
      rw [ev] at hsh es0
      have hsh : mI M (r 0) c = 0 := hsh
      rw [hsh]
      refine bT' (by decide) (m_g1 h rfl (m_aI h rfl hc (by omega) ?_))
      rw [hsh]
      exact bF' rfl (m_rc h (m_rj (n := 4) R (by omega) es0 q))
    | some w => cases w with
      | inr w =>
        rw [ev] at hsh es0
        have hsh : mI M (r 0) c = 2 := hsh.1
        rw [hsh]
        exact bF' rfl (m_rc h (m_rj (n := 3) R (by omega) es0 q))
      | inl w =>
        obtain ⟨so, n, f⟩ := w
        rw [ev] at hsh es0
        simp only at es0
        obtain ⟨a1, a2, a3, a4, a5⟩ := hsh
        rw [a1]
        refine bT' (by decide) (m_g1 h rfl (m_aI h rfl hc (by omega) ?_))
        rw [a1]
        refine bT' (by decide) (m_g1 h rfl (m_g1 h rfl (m_aI h rfl hc (by omega) (m_uI h rfl (by omega) (by omega) ?_))))
        rw [a3]
        have t7 := tg2 h (k := 7) (j := s) rfl (by omega)
        have n2 : r 2 ≠ r 22 := ne_tg (tg1 h (k := 2) rfl) (tg1 h (k := 22) rfl) (by omega)
        refine loopV (fun g v N => F_X3_rule_b92 Q a (Int32.ofNat s) (Int32.ofNat k) (Int32.ofNat c) g v N) (fun i => Int32.ofNat i) (fun i N => FmG (fun b i => SSh r ρ b i ∧ (((b = r 0 ∨ b = r 1 ∨ b = r 2 ∨ b = r 5 ∨ b = r 6 ∨ b = r 22) → i = s) ∧ (∀ t, t < 8 → t ≠ s → b ≠ r 3 + 1 + t ∧ b ≠ r 7 + 1 + t))) M N ∧ mI N (r 2) c = Int32.ofNat n ∧ mJ N = mJ M ∧ mI N (r 22) s = Int32.ofNat n ∧ ∀ j, j < i → mI N (r 7 + 1 + s) j = if (decide (j < n ∧ f j ≠ 0)) = true then 1 else 0) 125 (fun i hi g N hI kk => ?_) (fun g N hI => ?_) _ ⟨FmG.sI (ssh1 (k := 22) h d1.1 (by omega)), (mI_ne (Or.inl n2)).trans a3, rfl, mI_eq, fun j hj => absurd hj (Nat.not_lt_zero _)⟩
        · obtain ⟨fN, w1, w2, w3, w4⟩ := hI
          have hN := fN.lay h
          have go : ∀ y : Int32, y = (if (decide (i < n ∧ f i ≠ 0)) = true then 1 else 0) → F_X3_rule_b137 Q (F_X3_rule_b92 Q a (Int32.ofNat s) (Int32.ofNat k) (Int32.ofNat c) g) a (Int32.ofNat s) (Int32.ofNat k) (Int32.ofNat c) (Int32.ofNat i) (r 7 + 1 + s) (Int32.ofNat i) y N := by
            intro y hy
            refine m_vI (j := s) hN rfl (by omega) hi (by omega) ?_
            rw [i32_lit 1, i32_add]
            refine kk _ ⟨fN.tr (FmG.sI (ssh7 h d1.1)), (mI_ne (Or.inl (ne_tg (tg1 h (k := 2) rfl) t7 (by omega)))).trans w1, w2, (mI_ne (Or.inl (ne_tg (tg1 h (k := 22) rfl) t7 (by omega)))).trans w3, fun j hj => ?_⟩
            by_cases c : j = i
            · rw [c, mI_eq, hy]
            · exact (mI_ne (Or.inr c)).trans (w4 j (by omega))
          refine leF (a := 125) hi (by omega) (m_g2 hN rfl (m_aN hN rfl (by omega) (by omega) (m_g1 hN rfl (m_aI hN rfl hc (by omega) ?_))))
          rw [w1]
          refine leS (by omega) (by omega) (fun c2 => go 0 ?_) (fun c2 => m_g2 hN rfl (m_aN hN rfl hc (by omega) (m_bJ hN rfl hc (by omega) (by omega) ?_)))
          · rw [if_neg (by rw [decide_eq_true_iff]; omega)]
          · rw [w2, a5 i c2]
            refine ⟨fun c3 => go 0 ?_, fun c3 => go 1 ?_⟩
            · rw [if_neg (by rw [decide_eq_true_iff]; exact fun z => z.2 c3)]
            · rw [if_pos (by rw [decide_eq_true_iff]; exact ⟨c2, c3⟩)]
        · obtain ⟨fN, w1, w2, w3, w4⟩ := hI
          refine leT (a := 125) (Nat.le_refl _) (by omega) ?_
          have f0 := fin N _ _ es0 c5.symm ⟨⟨by show 1 ≤ 5; omega, by show 5 ≤ 5; omega⟩, fun z => (by cases z), fun z => (by cases z), fun z => (by cases z)⟩ (fun z => by omega) a4.2 fN (fun _ => ⟨w4, w3⟩)
          rw [b0 (by omega)] at f0
          exact f0
theorem m_says (R : MRel M a r ρ A) {x1 x2 : Int32} {Q : Int32 → gM → Prop} (q : Km (spSays A x1 x2) a ρ M Q) : F_X3_says M a x1 x2 Q := by
  have h := R.1
  refine m_inD (n := 7) (by omega) (fun s e1 => bF n10 ?_) (fun e1 => bT rfl (m_bad R (by unfold spSays; rw [e1]) q))
  refine m_inD (n := 5) (by omega) (fun k e2 => bT' n10 ?_) (fun e2 => bF' rfl (m_bad R (by unfold spSays; rw [e1, e2]) q))
  have d1 := dec_some e1
  have d2 := dec_some e2
  have hsh := R.2.2.1 s d1.1
  rw [d1.2.1, d2.2.1]
  have no3 : spSays A x1 x2 = rj A 3 → F_X3_says_b100 Q a M := fun e => m_rc h (m_rj (n := 3) R (by omega) e q)
  refine m_g1 h rfl (m_aI h rfl d1.1 (by omega) ?_)
  cases ev : aSh A s with
  | none =>
    have es : spSays A x1 x2 = rj A 4 := by unfold spSays; simp only [e1, e2, ev]
    rw [ev] at hsh
    have hsh : mI M (r 0) s = 0 := hsh
    rw [hsh]
    refine bT' (by decide) (m_g1 h rfl (m_aI h rfl d1.1 (by omega) ?_))
    rw [hsh]
    refine bF (by decide) (m_g1 h rfl (m_aI h rfl d1.1 (by omega) ?_))
    rw [hsh]
    refine bT' (by decide) (m_g1 h rfl (m_aI h rfl d1.1 (by omega) ?_))
    rw [hsh]
    exact bF' rfl (m_rc h (m_rj (n := 4) R (by omega) es q))
  | some w => cases w with
    | inl w =>
      have es : spSays A x1 x2 = rj A 3 := by unfold spSays; simp only [e1, e2, ev]
      rw [ev] at hsh
      have hsh : mI M (r 0) s = 1 := hsh.1
      rw [hsh]
      refine bT' (by decide) (m_g1 h rfl (m_aI h rfl d1.1 (by omega) ?_))
      rw [hsh]
      exact bT rfl (no3 es)
    | inr w =>
      obtain ⟨u, n⟩ := w
      rw [ev] at hsh
      obtain ⟨a1, a2, a3, a4, a5⟩ := hsh
      have hu := a3.1
      have es : spSays A x1 x2 = if k = 0 ∨ u.1 = k ∨ (k = 1 ∧ u.1 = 3) then (saysV u n k, A) else rj A 3 := by unfold spSays; simp only [e1, e2, ev]
      -- the yes and the no
      have no : ¬ (k = 0 ∨ u.1 = k ∨ (k = 1 ∧ u.1 = 3)) → F_X3_says_b74 Q a (Int32.ofNat s) (Int32.ofNat k) M := by
        intro c
        refine m_g1 h rfl (m_aI h rfl d1.1 (by omega) ?_)
        rw [a1]
        refine bF (by decide) (m_g1 h rfl (m_aI h rfl d1.1 (by omega) ?_))
        rw [a1]
        exact bF' rfl (bF' rfl (no3 (by rw [es, if_neg c])))
      have yes : (k = 0 ∨ u.1 = k ∨ (k = 1 ∧ u.1 = 3)) → F_X3_says_b70 Q a (Int32.ofNat s) (Int32.ofNat k) M := by
        intro c
        rw [if_pos c] at es
        refine m_g1 h rfl (m_aI h rfl d1.1 (by omega) ?_)
        rw [a1]
        refine bF (by decide) (m_g1 h rfl (m_aI h rfl d1.1 (by omega) ?_))
        rw [a1]
        refine bF' rfl (bT' n10 (m_g1 h rfl (m_aI h rfl d1.1 (by omega) ?_)))
        rw [a1]
        refine bT' (by decide) ?_
        rw [i32_toInt (by omega), i32_lit 0, i32_lit 1, i32_lit 2, i32_lit 3, i32_lit 4, i32_eq (by omega) (by omega), i32_eq (by omega) (by omega), i32_eq (by omega) (by omega), i32_eq (by omega) (by omega), i32_eq (by omega) (by omega)]
        rcases (by omega : k = 0 ∨ k = 1 ∨ k = 2 ∨ k = 3 ∨ k = 4 ∨ k = 5) with rfl | rfl | rfl | rfl | rfl | rfl
        · exact ⟨fun z => by omega, fun _ => m_end R FrW.rf es q, fun z => by omega, fun z => by omega, fun z => by omega, fun z => by omega⟩
        · refine ⟨fun z => by omega, fun z => by omega, fun _ => m_g1 h rfl (m_aI h rfl (by omega) (by omega) ?_), fun z => by omega, fun z => by omega, fun z => by omega⟩
          rw [a2.1]
          refine eqS' (by omega) (by omega) (fun c3 => m_g1 h rfl (m_aI h rfl (by omega) (by omega) ?_)) (fun c3 => m_g1 h rfl (m_aI h rfl (by omega) (by omega) ?_))
          · rw [a2.2.1 (by omega)]
            exact m_end R FrW.rf (by rw [es]; unfold saysV; simp only; rw [if_neg c3]) q
          · rw [a2.2.1 (by omega), i32_lit 10, i32_div (by have := (a3.2.2.2 c3).1; omega) (by omega)]
            exact m_end R FrW.rf (by rw [es]; unfold saysV; simp only; rw [if_pos c3]) q
        · refine ⟨fun z => by omega, fun z => by omega, fun z => by omega, fun _ => m_g1 h rfl (m_aI h rfl (by omega) (by omega) ?_), fun z => by omega, fun z => by omega⟩
          rw [a2.2.1 (by omega)]
          exact m_end R FrW.rf es q
        · refine ⟨fun z => by omega, fun z => by omega, fun z => by omega, fun z => by omega, fun _ => m_g1 h rfl (m_aI h rfl (by omega) (by omega) ?_), fun z => by omega⟩
          have h3 : u.1 = 3 := by omega
          rw [a2.2.1 (by omega), i32_lit 10, i32_rem (by have := (a3.2.2.2 h3).1; omega) (by omega)]
          exact m_end R FrW.rf es q
        · exact ⟨fun z => by omega, fun z => by omega, fun z => by omega, fun z => by omega, fun z => by omega, fun _ => m_end R FrW.rf es q⟩
        · refine ⟨fun _ => m_g1 h rfl (m_aI h rfl (by omega) (by omega) ?_), fun z => by omega, fun z => by omega, fun z => by omega, fun z => by omega, fun z => by omega⟩
          rw [a4 (by omega)]
          exact m_end R FrW.rf es q
      rw [a1]
      refine bF' rfl (eqS (b := 0) (by omega) (by omega) (fun c => yes (Or.inl c)) (fun c => m_g1 h rfl (m_aI h rfl (by omega) (by omega) ?_)))
      rw [a2.1]
      refine eqS (by omega) (by omega) (fun c2 => yes (Or.inr (Or.inl c2))) (fun c2 => eqS' (b := 1) (by omega) (by omega) (fun c3 => no (by omega)) (fun c3 => m_g1 h rfl (m_aI h rfl (by omega) (by omega) ?_)))
      rw [a2.1]
      exact eqS' (b := 3) (by omega) (by omega) (fun c4 => no (by omega)) (fun c4 => yes (by omega))
theorem m_wipe (R : MRel M a r ρ A) {Q : Int32 → gM → Prop} (q : Km (spWipe A) a ρ M Q) : F_X3_wipe M a Q := by
  have h := R.1
  refine m_gI h (m_pI h ?_)
  rw [R.2.2.2.1.1]
  have t := h.1.2
  have f : FmG (STp ρ) M (sI M a 9 (0 : Int32)) := FmG.sI (Or.inr ⟨t, rfl⟩)
  exact q _ r ρ (R.setTp f rfl rfl rfl ⟨mI_eq, by show 0 ≤ 160; omega, fun i hi => absurd hi (Nat.not_lt_zero _)⟩) (f.fmm (fun b i z => by rcases z with z | ⟨z, -⟩ <;> omega))
theorem m_feed (R : MRel M a r ρ A) {x1 x2 : Int32} {Q : Int32 → gM → Prop} (q : Km (spFeed A x1 x2) a ρ M Q) : F_X3_feed M a x1 x2 Q := by
  have h := R.1
  have t0 := h.1.2
  have t8 := tg1 h (k := 8) rfl
  obtain ⟨z1, z2, z3⟩ := R.2.2.2.1
  refine m_in1 (n := 4) (by omega) (fun n e1 hn => bT' n10 (m_gI h ?_)) (fun e1 => bF' rfl (m_bad R ?_ q))
  · have d1 := dec_some e1
    have es : spFeed A x1 x2 = if 160 < aTz A + n then rj A 6 else (Int32.ofNat (aTz A + n), sTp A (fun i => if aTz A ≤ i ∧ i < aTz A + n then byF x1 (n - 1 - (i - aTz A)) else aTp A i) (aTz A + n)) := by
      unfold spFeed
      rw [e1]
      exact if_neg (by omega)
    rw [z1, d1.2.1, i32_lit 160, i32_sub z2]
    refine leS (by omega) (by omega) (fun c => ?_) (fun c => m_rc h (m_rj (n := 6) R (by omega) (by rw [es, if_pos (by omega)]) q))
    rw [if_neg (by omega)] at es
    rw [es] at q
    have e0 : Int32.ofNat n - (1 : Int32) = Int32.ofNat (n - 0) + (-1 : Int32) := by
      obtain ⟨m, rfl⟩ : ∃ m, n = m + 1 := ⟨n - 1, by omega⟩
      rw [i32_lit 1, i32_sub (by omega)]
      exact (i32_dec m).symm
    rw [e0]
    refine loopV (fun g v N => F_X3_feed_b42 Q a x1 g v N) (fun i => Int32.ofNat (n - i) + (-1 : Int32)) (fun i N => FmG (STp ρ) M N ∧ mI N a 9 = Int32.ofNat (aTz A + i) ∧ ∀ j, j < aTz A + i → mI N (r 8) j = Int32.ofNat (if aTz A ≤ j ∧ j < aTz A + n then byF x1 (n - 1 - (j - aTz A)) else aTp A j)) n (fun i hi g N hI k => ?_) (fun g N hI => ?_) M ⟨FmG.rf, z1, fun j hj => by rw [if_neg (by omega)]; exact (z3 j (by omega)).1⟩
    · obtain ⟨f, w1, w2⟩ := hI
      have hN := f.lay h
      have e9 : Int32.ofNat (n - i) + (-1 : Int32) = Int32.ofNat (n - 1 - i) := by rw [show n - i = (n - 1 - i) + 1 by omega]; exact i32_dec _
      show F_X3_feed_b42 Q a x1 (g + 1) (Int32.ofNat (n - i) + (-1 : Int32)) N
      rw [e9]
      refine bF (i32_lt0 (by omega)) (m_g1 hN rfl (m_gI hN (m_pI hN ?_)))
      rw [w1, (byF_lt x1 (n - 1 - i)).1]
      refine m_uI (hN.sI _ _ _) rfl (by omega) (by omega) ?_
      have e10 : Int32.ofNat (aTz A + i) + (1 : Int32) = Int32.ofNat (aTz A + (i + 1)) := by rw [i32_lit 1, i32_add]; rfl
      have e11 : Int32.ofNat (n - 1 - i) = Int32.ofNat (n - (i + 1)) := by rw [show n - 1 - i = n - (i + 1) by omega]
      rw [e10, e11]
      refine k _ ⟨(f.tr (FmG.sI (Or.inr ⟨t0, rfl⟩))).tr (FmG.sI (Or.inl t8)), (mI_ne (Or.inl (ne_tg t0 t8 (by omega)))).trans mI_eq, fun j hj => ?_⟩
      by_cases c2 : j = aTz A + i
      · rw [c2, mI_eq, if_pos (by omega), show n - 1 - (aTz A + i - aTz A) = n - 1 - i by omega]
      · rw [mI_ne (Or.inr c2), mI_ne (Or.inl (ne_tg t8 t0 (by omega)))]
        exact w2 j (by omega)
    · obtain ⟨f, w1, w2⟩ := hI
      have hN := f.lay h
      show F_X3_feed_b42 Q a x1 (g + 1) (Int32.ofNat (n - n) + (-1 : Int32)) N
      rw [Nat.sub_self]
      refine bT (by decide) (m_gI hN ?_)
      rw [w1]
      refine q N r ρ (R.setTp f rfl rfl rfl ⟨w1, by show aTz A + n ≤ 160; omega, fun i hi => ⟨w2 i hi, ?_⟩⟩) (f.fmm (fun b i z => by rcases z with z | ⟨z, -⟩ <;> omega))
      show (if aTz A ≤ i ∧ i < aTz A + n then byF x1 (n - 1 - (i - aTz A)) else aTp A i) < 256
      have hi : i < aTz A + n := hi
      split
      · exact (byF_lt _ _).2
      · exact (z3 i (by omega)).2
  · unfold spFeed
    cases e2 : dec 5 x2 with
    | none => rfl
    | some n => simp only; rw [if_pos (e1 n e2)]
end MOP3
