/-! the model's operations: shelves -/
set_option maxRecDepth 100000
section MOP1
variable {M : gM} {a : Nat} {r ρ : Nat → Nat} {A : Ab}
/-- one shelf has changed -/
theorem MRel.sh1 (R : MRel M a r ρ A) {s : Nat} {v : Sh} {M' : gM} (f : FmG (fun b i => SSh r ρ b i ∧ (((b = r 0 ∨ b = r 1 ∨ b = r 2 ∨ b = r 5 ∨ b = r 6 ∨ b = r 22) → i = s) ∧ (∀ t, t < 8 → t ≠ s → b ≠ r 3 + 1 + t ∧ b ≠ r 7 + 1 + t))) M M') (hv : ShM M' r s v) : MRel M' a r ρ (sSh A s v) ∧ Fmm ρ M ρ M' := by
  refine ⟨R.setSh (f.mono (fun b i z => z.1)) rfl rfl (fun t ht => ?_), FmG.fmm f (fun b i z => ?_)⟩
  · show ShM M' r t (if t = s then v else aSh A t)
    by_cases c : t = s
    · rw [if_pos c, c]; exact hv
    · rw [if_neg c]
      refine f.sh (fun k hk z => ?_) (fun i z => (z.2.2 t ht c).1 rfl) (fun i z => (z.2.2 t ht c).2 rfl) (R.2.2.1 t ht)
      rcases hk with rfl | rfl | rfl | rfl | rfl | rfl
      · exact c (z.2.1 (Or.inl rfl))
      · exact c (z.2.1 (Or.inr (Or.inl rfl)))
      · exact c (z.2.1 (Or.inr (Or.inr (Or.inl rfl))))
      · exact c (z.2.1 (Or.inr (Or.inr (Or.inr (Or.inl rfl)))))
      · exact c (z.2.1 (Or.inr (Or.inr (Or.inr (Or.inr (Or.inl rfl))))))
      · exact c (z.2.1 (Or.inr (Or.inr (Or.inr (Or.inr (Or.inr rfl))))))
  · rcases z.1 with ⟨k, hk, e⟩ | ⟨e, -⟩ | ⟨e, -⟩ <;> omega
/-- a shelf's cells: one of an int row -/
theorem ssh1 (h : LayM M a r ρ 1000) {k s : Nat} (hs : s < 8) (hk : k = 0 ∨ k = 1 ∨ k = 2 ∨ k = 5 ∨ k = 6 ∨ k = 22) : SSh r ρ (r k) s ∧ (((r k = r 0 ∨ r k = r 1 ∨ r k = r 2 ∨ r k = r 5 ∨ r k = r 6 ∨ r k = r 22) → s = s) ∧ (∀ t, t < 8 → t ≠ s → r k ≠ r 3 + 1 + t ∧ r k ≠ r 7 + 1 + t)) := by
  have t : ρ (r k) = 1000 + k := by rcases hk with rfl | rfl | rfl | rfl | rfl | rfl <;> exact tg1 h rfl
  refine ⟨?_, fun _ => rfl, fun j hj _ => ⟨ne_tg t (tg2 h (k := 3) rfl hj) (by omega), ne_tg t (tg2 h (k := 7) (j := j) rfl (by omega)) (by omega)⟩⟩
  rcases hk with rfl | rfl | rfl | rfl | rfl | rfl
  · exact Or.inl ⟨0, by omega, t⟩
  · exact Or.inl ⟨1, by omega, t⟩
  · exact Or.inl ⟨2, by omega, t⟩
  · exact Or.inr (Or.inl ⟨Or.inl t, hs⟩)
  · exact Or.inr (Or.inl ⟨Or.inr t, hs⟩)
  · exact Or.inl ⟨22, by omega, t⟩
theorem ssh3 (h : LayM M a r ρ 1000) {s i : Nat} (hs : s < 8) : SSh r ρ (r 3 + 1 + s) i ∧ (((r 3 + 1 + s = r 0 ∨ r 3 + 1 + s = r 1 ∨ r 3 + 1 + s = r 2 ∨ r 3 + 1 + s = r 5 ∨ r 3 + 1 + s = r 6 ∨ r 3 + 1 + s = r 22) → i = s) ∧ (∀ t, t < 8 → t ≠ s → r 3 + 1 + s ≠ r 3 + 1 + t ∧ r 3 + 1 + s ≠ r 7 + 1 + t)) := by
  have t : ρ (r 3 + 1 + s) = 1000 + 3 := tg2 h rfl hs
  refine ⟨Or.inl ⟨3, by omega, t⟩, fun z => ?_, fun j hj c => ⟨by omega, ne_tg t (tg2 h (k := 7) (j := j) rfl (by omega)) (by omega)⟩⟩
  exfalso
  rcases z with z | z | z | z | z | z
  · exact ne_tg t (tg1 h (k := 0) rfl) (by omega) z
  · exact ne_tg t (tg1 h (k := 1) rfl) (by omega) z
  · exact ne_tg t (tg1 h (k := 2) rfl) (by omega) z
  · exact ne_tg t (tg1 h (k := 5) rfl) (by omega) z
  · exact ne_tg t (tg1 h (k := 6) rfl) (by omega) z
  · exact ne_tg t (tg1 h (k := 22) rfl) (by omega) z
theorem ssh4 (h : LayM M a r ρ 1000) {s i : Nat} : SSh r ρ (r 4) i ∧ (((r 4 = r 0 ∨ r 4 = r 1 ∨ r 4 = r 2 ∨ r 4 = r 5 ∨ r 4 = r 6 ∨ r 4 = r 22) → i = s) ∧ (∀ t, t < 8 → t ≠ s → r 4 ≠ r 3 + 1 + t ∧ r 4 ≠ r 7 + 1 + t)) := by
  have t : ρ (r 4) = 1000 + 4 := tg1 h rfl
  refine ⟨Or.inl ⟨4, by omega, t⟩, fun z => ?_, fun j hj c => ⟨ne_tg t (tg2 h (k := 3) rfl hj) (by omega), ne_tg t (tg2 h (k := 7) (j := j) rfl (by omega)) (by omega)⟩⟩
  exfalso
  rcases z with z | z | z | z | z | z
  · exact ne_tg t (tg1 h (k := 0) rfl) (by omega) z
  · exact ne_tg t (tg1 h (k := 1) rfl) (by omega) z
  · exact ne_tg t (tg1 h (k := 2) rfl) (by omega) z
  · exact ne_tg t (tg1 h (k := 5) rfl) (by omega) z
  · exact ne_tg t (tg1 h (k := 6) rfl) (by omega) z
  · exact ne_tg t (tg1 h (k := 22) rfl) (by omega) z
theorem ssh7 (h : LayM M a r ρ 1000) {s i : Nat} (hs : s < 8) : SSh r ρ (r 7 + 1 + s) i ∧ (((r 7 + 1 + s = r 0 ∨ r 7 + 1 + s = r 1 ∨ r 7 + 1 + s = r 2 ∨ r 7 + 1 + s = r 5 ∨ r 7 + 1 + s = r 6 ∨ r 7 + 1 + s = r 22) → i = s) ∧ (∀ t, t < 8 → t ≠ s → r 7 + 1 + s ≠ r 3 + 1 + t ∧ r 7 + 1 + s ≠ r 7 + 1 + t)) := by
  have t : ρ (r 7 + 1 + s) = 1000 + 7 := tg2 h rfl (by omega)
  refine ⟨Or.inr (Or.inr ⟨t, s, hs, rfl⟩), fun z => ?_, fun j hj c => ⟨ne_tg t (tg2 h (k := 3) rfl hj) (by omega), by omega⟩⟩
  exfalso
  rcases z with z | z | z | z | z | z
  · exact ne_tg t (tg1 h (k := 0) rfl) (by omega) z
  · exact ne_tg t (tg1 h (k := 1) rfl) (by omega) z
  · exact ne_tg t (tg1 h (k := 2) rfl) (by omega) z
  · exact ne_tg t (tg1 h (k := 5) rfl) (by omega) z
  · exact ne_tg t (tg1 h (k := 6) rfl) (by omega) z
  · exact ne_tg t (tg1 h (k := 22) rfl) (by omega) z
theorem m_row (R : MRel M a r ρ A) {x1 x2 x3 : Int32} {Q : Int32 → gM → Prop} (q : Km (spRow A x1 x2 x3) a ρ M Q) : F_X3_row M a x1 x2 x3 Q := by
  have h := R.1
  refine m_inD (n := 7) (by omega) (fun s e1 => bF n10 ?_) (fun e1 => bT rfl (m_bad R (by unfold spRow; rw [e1]) q))
  refine m_inD (n := 4) (by omega) (fun so e2 => bF n10 ?_) (fun e2 => bT rfl (m_bad R (by unfold spRow; rw [e1, e2]) q))
  refine m_inD (n := 125) (by omega) (fun n e3 => bT' n10 ?_) (fun e3 => bF' rfl (m_bad R (by unfold spRow; rw [e1, e2, e3]) q))
  have es : spRow A x1 x2 x3 = (1, sSh A s (some (.inl (so, n, fun _ => 0)))) := by unfold spRow; rw [e1, e2, e3]
  rw [es] at q
  have d1 := dec_some e1
  have d2 := dec_some e2
  have d3 := dec_some e3
  rw [d1.2.1, d2.2.1, d3.2.1]
  refine m_g1 h rfl (m_uI h rfl d1.1 (by omega) (m_g1 (h.sI _ _ _) rfl (m_uI (h.sI _ _ _) rfl d1.1 (by omega) (m_g1 ((h.sI _ _ _).sI _ _ _) rfl (m_uI ((h.sI _ _ _).sI _ _ _) rfl d1.1 (by omega) ?_)))))
  have n01 : r 0 ≠ r 1 := ne_tg (tg1 h (k := 0) rfl) (tg1 h (k := 1) rfl) (by omega)
  have n02 : r 0 ≠ r 2 := ne_tg (tg1 h (k := 0) rfl) (tg1 h (k := 2) rfl) (by omega)
  have n12 : r 1 ≠ r 2 := ne_tg (tg1 h (k := 1) rfl) (tg1 h (k := 2) rfl) (by omega)
  refine loopV (fun g v N => F_X3_row_b67 Q a (Int32.ofNat s) g v N) (fun i => Int32.ofNat i) (fun i N => FmG (fun b i => SSh r ρ b i ∧ (((b = r 0 ∨ b = r 1 ∨ b = r 2 ∨ b = r 5 ∨ b = r 6 ∨ b = r 22) → i = s) ∧ (∀ t, t < 8 → t ≠ s → b ≠ r 3 + 1 + t ∧ b ≠ r 7 + 1 + t))) M N ∧ mI N (r 0) s = 1 ∧ mI N (r 1) s = Int32.ofNat so ∧ mI N (r 2) s = Int32.ofNat n ∧ ∀ j, j < i → mJ N (r 3 + 1 + s) j = 0) 125 (fun i hi g N hI k => ?_) (fun g N hI => ?_) _ ⟨((FmG.sI (ssh1 h d1.1 (by omega))).tr (FmG.sI (ssh1 h d1.1 (by omega)))).tr (FmG.sI (ssh1 h d1.1 (by omega))), (mI_ne (Or.inl n02)).trans ((mI_ne (Or.inl n01)).trans mI_eq), (mI_ne (Or.inl n12)).trans mI_eq, mI_eq, fun j hj => absurd hj (Nat.not_lt_zero _)⟩
  · obtain ⟨f, a1, a2, a3, a4⟩ := hI
    have hN := f.lay h
    refine leF (a := 125) hi (by omega) (m_g2 hN rfl (m_aN hN rfl d1.1 (by omega) (m_vJ hN rfl d1.1 hi (by omega) ?_)))
    rw [i32_lit 1, i32_add]
    refine k _ ⟨f.tr (FmG.sJ (ssh3 h d1.1)), a1, a2, a3, fun j hj => ?_⟩
    by_cases c : j = i
    · rw [c]; exact mJ_eq
    · exact (mJ_ne (Or.inr c)).trans (a4 j (by omega))
  · obtain ⟨f, a1, a2, a3, a4⟩ := hI
    refine leT (a := 125) (Nat.le_refl _) (by omega) ?_
    obtain ⟨R', f'⟩ := R.sh1 (v := some (.inl (so, n, fun _ => 0))) f ⟨a1, a2, a3, ⟨by omega, by omega⟩, fun i hi => a4 i (by omega)⟩
    exact q N r ρ R' f'
theorem m_fit {so : Nat} {v : Int64} {Q : Int64 → gM → Prop} (hs : so ≤ 4) (q : Q (fitF so v) M) : F_X3_fit M (Int32.ofNat so) v Q := by
  unfold F_X3_fit
  rw [i32_toInt (by omega), i32_lit 0, i32_lit 1, i32_lit 2, i32_lit 3, i32_eq (by omega) (by omega), i32_eq (by omega) (by omega), i32_eq (by omega) (by omega), i32_eq (by omega) (by omega)]
  rcases (by omega : so = 0 ∨ so = 1 ∨ so = 2 ∨ so = 3 ∨ so = 4) with rfl | rfl | rfl | rfl | rfl
  · exact ⟨fun z => by omega, fun _ => q, fun z => by omega, fun z => by omega, fun z => by omega⟩
  · exact ⟨fun z => by omega, fun z => by omega, fun _ => q, fun z => by omega, fun z => by omega⟩
  · exact ⟨fun z => by omega, fun z => by omega, fun z => by omega, fun _ => q, fun z => by omega⟩
  · exact ⟨fun z => by omega, fun z => by omega, fun z => by omega, fun z => by omega, fun _ => q⟩
  · refine ⟨fun _ => ?_, fun z => by omega, fun z => by omega, fun z => by omega, fun z => by omega⟩
    have q : Q (if v = 0 then 0 else 1) M := q
    exact ⟨fun c => by rw [if_pos c] at q; exact q, fun c => by rw [if_neg c] at q; exact q⟩
theorem m_set (R : MRel M a r ρ A) {x1 x2 : Int32} {v : Int64} {Q : Int32 → gM → Prop} (q : Km (spSet A x1 x2 v) a ρ M Q) : F_X3_set M a x1 x2 v Q := by
  have h := R.1
  refine m_inD (n := 7) (by omega) (fun s e1 => bT' n10 ?_) (fun e1 => bF' rfl (m_bad R (by unfold spSet; rw [e1]) q))
  have d1 := dec_some e1
  have hsh := R.2.2.1 s d1.1
  rw [d1.2.1]
  refine m_g1 h rfl (m_aI h rfl d1.1 (by omega) ?_)
  cases ev : aSh A s with
  | none =>
    rw [ev] at hsh
    have hsh : mI M (r 0) s = 0 := hsh
    rw [hsh]
    refine bT' (by decide) (m_g1 h rfl (m_aI h rfl d1.1 (by omega) ?_))
    rw [hsh]
    exact bF' rfl (m_rc h (m_rj (n := 4) R (by omega) (by unfold spSet; rw [e1]; simp only; rw [ev]) q))
  | some w => cases w with
    | inr w =>
      rw [ev] at hsh
      have hsh : mI M (r 0) s = 2 := hsh.1
      rw [hsh]
      exact bF' rfl (m_rc h (m_rj (n := 3) R (by omega) (by unfold spSet; rw [e1]; simp only; rw [ev]) q))
    | inl w =>
      obtain ⟨so, n, f⟩ := w
      rw [ev] at hsh
      obtain ⟨a1, a2, a3, a4, a5⟩ := hsh
      rw [a1]
      refine bT' (by decide) (m_g1 h rfl (m_aI h rfl d1.1 (by omega) ?_))
      rw [a1]
      refine bT' (by decide) (m_g1 h rfl (m_aI h rfl d1.1 (by omega) ?_))
      rw [a3]
      refine m_inL (by omega) (fun i e2 => bT' n10 ?_) (fun e2 => bF' rfl (m_bad R (by unfold spSet; rw [e1]; simp only; rw [ev]; simp only; rw [e2]) q))
      have d2 := dec_some e2
      have es : spSet A x1 x2 v = (1, sSh A s (some (.inl (so, n, fun j => if j = i then fitF so v else f j)))) := by unfold spSet; rw [e1]; simp only; rw [ev]; simp only; rw [e2]
      rw [es] at q
      refine m_g2 h rfl (m_aN h rfl d1.1 (by omega) (m_g1 h rfl (m_aI h rfl d1.1 (by omega) ?_)))
      rw [a2, d2.2.1]
      refine m_fit a4.1 (m_vJ h rfl d1.1 (by omega) (by omega) ?_)
      obtain ⟨R', f'⟩ := R.sh1 (v := some (.inl (so, n, fun j => if j = i then fitF so v else f j))) (FmG.sJ (M := M) (x := fitF so v) (ssh3 (i := i) h d1.1)) ⟨a1, a2, a3, a4, fun j hj => by
        show _ = if j = i then fitF so v else f j
        by_cases c : j = i
        · rw [if_pos c, c, mJ_eq]
        · rw [mJ_ne (Or.inr c), if_neg c, a5 j hj]⟩
      exact q _ r ρ R' f'
theorem m_element (R : MRel M a r ρ A) {x1 x2 : Int32} {Q : Int64 → gM → Prop} (q : Km (spElement A x1 x2) a ρ M Q) : F_X3_element M a x1 x2 Q := by
  have h := R.1
  refine m_inD (n := 7) (by omega) (fun s e1 => bF n10 ?_) (fun e1 => bT rfl (m_end R FrW.rf (by unfold spElement; rw [e1]) q))
  have d1 := dec_some e1
  have hsh := R.2.2.1 s d1.1
  rw [d1.2.1]
  refine m_g1 h rfl (m_aI h rfl d1.1 (by omega) ?_)
  cases ev : aSh A s with
  | none =>
    rw [ev] at hsh
    have hsh : mI M (r 0) s = 0 := hsh
    rw [hsh]
    exact bT' (by decide) (m_end R FrW.rf (by unfold spElement; rw [e1]; simp only; rw [ev]) q)
  | some w => cases w with
    | inr w =>
      rw [ev] at hsh
      have hsh : mI M (r 0) s = 2 := hsh.1
      rw [hsh]
      exact bT' (by decide) (m_end R FrW.rf (by unfold spElement; rw [e1]; simp only; rw [ev]) q)
    | inl w =>
      obtain ⟨so, n, f⟩ := w
      rw [ev] at hsh
      obtain ⟨a1, a2, a3, a4, a5⟩ := hsh
      rw [a1]
      refine bF' rfl (m_g1 h rfl (m_aI h rfl d1.1 (by omega) ?_))
      rw [a3]
      refine m_inL (by omega) (fun i e2 => bF n10 ?_) (fun e2 => bT rfl (m_end R FrW.rf (by unfold spElement; rw [e1]; simp only; rw [ev]; simp only; rw [e2]) q))
      have d2 := dec_some e2
      rw [d2.2.1]
      refine m_g2 h rfl (m_aN h rfl d1.1 (by omega) (m_bJ h rfl d1.1 (by omega) (by omega) ?_))
      rw [a5 i d2.1]
      exact m_end R FrW.rf (by unfold spElement; rw [e1]; simp only; rw [ev]; simp only; rw [e2]) q
theorem m_holds (R : MRel M a r ρ A) {x1 : Int32} {Q : Int32 → gM → Prop} (q : Km (spHolds A x1) a ρ M Q) : F_X3_holds M a x1 Q := by
  have h := R.1
  refine m_inD (n := 7) (by omega) (fun s e1 => bF n10 ?_) (fun e1 => bT rfl (m_end R FrW.rf (by unfold spHolds; rw [e1]) q))
  have d1 := dec_some e1
  have hsh := R.2.2.1 s d1.1
  rw [d1.2.1]
  refine m_g1 h rfl (m_aI h rfl d1.1 (by omega) ?_)
  cases ev : aSh A s with
  | none =>
    rw [ev] at hsh
    have hsh : mI M (r 0) s = 0 := hsh
    rw [hsh]
    exact bF' rfl (m_end R FrW.rf (by unfold spHolds; rw [e1]; simp only; rw [ev]) q)
  | some w => cases w with
    | inr w =>
      obtain ⟨u, n⟩ := w
      rw [ev] at hsh
      obtain ⟨a1, a2, a3, a4, a5⟩ := hsh
      rw [a1]
      refine bT' (by decide) (m_g1 h rfl (m_aI h rfl d1.1 (by omega) ?_))
      rw [a1]
      refine bT' (by decide) (m_g1 h rfl (m_aI h rfl (by omega) (by omega) ?_))
      rw [a2.1, i32_lit 10, i32_add]
      exact m_end R FrW.rf (by unfold spHolds; rw [e1]; simp only; rw [ev]) q
    | inl w =>
      obtain ⟨so, n, f⟩ := w
      rw [ev] at hsh
      obtain ⟨a1, a2, a3, a4, a5⟩ := hsh
      rw [a1]
      refine bT' (by decide) (m_g1 h rfl (m_aI h rfl d1.1 (by omega) ?_))
      rw [a1]
      refine bF' rfl (m_g1 h rfl (m_aI h rfl d1.1 (by omega) ?_))
      rw [a2]
      exact m_end R FrW.rf (by unfold spHolds; rw [e1]; simp only; rw [ev]) q
end MOP1
