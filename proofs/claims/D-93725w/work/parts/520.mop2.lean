/-! the model's operations: copies, rules, texts -/
set_option maxRecDepth 100000
theorem byF_lt (v : Int32) (k : Nat) : ((v >>> (((8 : Int32) * Int32.ofNat k) &&& 31)) &&& (255 : Int32)) = Int32.ofNat (byF v k) ∧ byF v k < 256 := by
  have key : ∀ w : Int32, (w &&& (255 : Int32)) = Int32.ofNat (w &&& (255 : Int32)).toNatClampNeg ∧ (w &&& (255 : Int32)).toNatClampNeg < 256 := by
    intro w
    have h0 : (w &&& (255 : Int32)).toInt = ((w.toBitVec.toNat % 256 : Nat) : Int) := by
      have e : (w &&& (255 : Int32)).toBitVec.toNat = w.toBitVec.toNat % 256 := by
        rw [Int32.toBitVec_and, BitVec.toNat_and]
        exact Nat.and_two_pow_sub_one_eq_mod _ 8
      have h2 : w.toBitVec.toNat % 256 < 256 := Nat.mod_lt _ (by omega)
      show (w &&& (255 : Int32)).toBitVec.toInt = _
      rw [BitVec.toInt_eq_toNat_cond, e, if_pos (by omega)]
    have h2 : w.toBitVec.toNat % 256 < 256 := Nat.mod_lt _ (by omega)
    have h3 : (w &&& (255 : Int32)).toNatClampNeg = w.toBitVec.toNat % 256 := by
      show (w &&& (255 : Int32)).toInt.toNat = _
      rw [h0]
      exact Int.toNat_natCast _
    refine ⟨Int32.toInt_inj.mp ?_, by omega⟩
    rw [h3, h0, i32_toInt (by omega)]
  exact key _
section MOP2
variable {M : gM} {a : Nat} {r ρ : Nat → Nat} {A : Ab}
theorem lt0F {x : Int32} {n : Nat} {B C : Prop} (e : dec n x = none) (hn : n < 2147483648) (k0 : B) (k1 : ∀ s, n ≤ s → s < 2147483648 → x = Int32.ofNat s → C) : (x < 0 → B) ∧ (¬ x < 0 → C) := by
  refine ⟨fun _ => k0, fun c => ?_⟩
  obtain ⟨s, hs, e2⟩ := i32_of c
  refine k1 s ?_ hs e2
  by_cases c2 : s < n
  · exact absurd e2 (dec_none e c2 hs)
  · omega
theorem m_copy (R : MRel M a r ρ A) {x1 x2 x3 x4 x5 : Int32} {Q : Int32 → gM → Prop} (q : Km (spCopy A x1 x2 x3 x4 x5) a ρ M Q) : F_X3_copy M a x1 x2 x3 x4 x5 Q := by
  have h := R.1
  refine m_inD (n := 7) (by omega) (fun p e1 => bF n10 ?_) (fun e1 => bT rfl (m_bad R (by unfold spCopy; rw [e1]) q))
  refine m_inD (n := 7) (by omega) (fun t e2 => bT' n10 ?_) (fun e2 => bF' rfl (m_bad R (by unfold spCopy; rw [e1, e2]) q))
  have d1 := dec_some e1
  have d2 := dec_some e2
  have hp := R.2.2.1 p d1.1
  have ht := R.2.2.1 t d2.1
  have es : spCopy A x1 x2 x3 x4 x5 = match aSh A p, aSh A t with
    | some (.inr _), _ => rj A 3
    | _, some (.inr _) => rj A 3
    | none, _ => rj A 4
    | _, none => rj A 4
    | some (.inl (so, n, f)), some (.inl (so', n', f')) => if so ≠ so' then rj A 3 else match inRow n x3 x5, inRow n' x4 x5 with
      | some (i, c), some (j, _) => (Int32.ofNat c, sSh A t (some (.inl (so', n', fun k => if j ≤ k ∧ k < j + c then f (i + (k - j)) else f' k))))
      | _, _ => rj A 2 := by unfold spCopy; rw [e1, e2]; rfl
  rw [d1.2.1, d2.2.1]
  refine m_g1 h rfl (m_aI h rfl d1.1 (by omega) ?_)
  -- the refusals
  have o3 : spCopy A x1 x2 x3 x4 x5 = rj A 3 → F_X3_copy_b86 Q a M := fun e => m_rc h (m_rj (n := 3) R (by omega) e q)
  have o4 : spCopy A x1 x2 x3 x4 x5 = rj A 4 → F_X3_copy_b111 Q a M := fun e => m_rc h (m_rj (n := 4) R (by omega) e q)
  have o2 : spCopy A x1 x2 x3 x4 x5 = rj A 2 → F_X3_copy_b181 Q a M := fun e => m_rc h (m_rj (n := 2) R (by omega) e q)
  cases ep : aSh A p with
  | none =>
    rw [ep] at hp es
    have hp : mI M (r 0) p = 0 := hp
    rw [hp]
    refine bF (by decide) (m_g1 h rfl (m_aI h rfl d2.1 (by omega) ?_))
    cases et : aSh A t with
    | none =>
      rw [et] at ht es
      have ht : mI M (r 0) t = 0 := ht
      rw [ht]
      refine bF (by decide) (m_g1 h rfl (m_aI h rfl d1.1 (by omega) ?_))
      rw [hp]
      refine bT' (by decide) (m_g1 h rfl (m_aI h rfl d1.1 (by omega) ?_))
      rw [hp]
      exact bT rfl (o4 es)
    | some w => cases w with
      | inr w =>
        rw [et] at ht es
        have ht : mI M (r 0) t = 2 := ht.1
        rw [ht]
        exact bT rfl (o3 es)
      | inl w =>
        rw [et] at ht es
        have ht : mI M (r 0) t = 1 := ht.1
        rw [ht]
        refine bF (by decide) (m_g1 h rfl (m_aI h rfl d1.1 (by omega) ?_))
        rw [hp]
        refine bT' (by decide) (m_g1 h rfl (m_aI h rfl d1.1 (by omega) ?_))
        rw [hp]
        exact bT rfl (o4 es)
  | some w => cases w with
    | inr w =>
      rw [ep] at hp es
      have hp : mI M (r 0) p = 2 := hp.1
      rw [hp]
      exact bT rfl (o3 (by rw [es]))
    | inl w =>
      obtain ⟨so, n, f⟩ := w
      rw [ep] at hp es
      obtain ⟨a1, a2, a3, a4, a5⟩ := hp
      rw [a1]
      refine bF (by decide) (m_g1 h rfl (m_aI h rfl d2.1 (by omega) ?_))
      cases et : aSh A t with
      | none =>
        rw [et] at ht es
        have ht : mI M (r 0) t = 0 := ht
        rw [ht]
        refine bF (by decide) (m_g1 h rfl (m_aI h rfl d1.1 (by omega) ?_))
        rw [a1]
        refine bF' rfl (m_g1 h rfl (m_aI h rfl d2.1 (by omega) ?_))
        rw [ht]
        refine bT' (by decide) (m_g1 h rfl (m_aI h rfl d1.1 (by omega) ?_))
        rw [a1]
        refine bF (by decide) (m_g1 h rfl (m_aI h rfl d2.1 (by omega) ?_))
        rw [ht]
        exact bF' rfl (o4 es)
      | some w => cases w with
        | inr w =>
          rw [et] at ht es
          have ht : mI M (r 0) t = 2 := ht.1
          rw [ht]
          exact bT rfl (o3 es)
        | inl w =>
          obtain ⟨so', n', f'⟩ := w
          rw [et] at ht es
          obtain ⟨b1, b2, b3, b4, b5⟩ := ht
          simp only at es
          rw [b1]
          refine bF (by decide) (m_g1 h rfl (m_aI h rfl d1.1 (by omega) ?_))
          rw [a1]
          refine bF' rfl (m_g1 h rfl (m_aI h rfl d2.1 (by omega) ?_))
          rw [b1]
          refine bF' rfl (m_g1 h rfl (m_aI h rfl d1.1 (by omega) (m_g1 h rfl (m_aI h rfl d2.1 (by omega) ?_))))
          rw [a2, b2]
          refine eqS (by omega) (by omega) (fun c => ?_) (fun c => o3 (by rw [es, if_pos c]))
          rw [if_neg (by omega)] at es
          refine m_g1 h rfl (m_aI h rfl d1.1 (by omega) ?_)
          rw [a1]
          refine bF (by decide) (m_g1 h rfl (m_aI h rfl d2.1 (by omega) ?_))
          rw [b1]
          refine bT' (by decide) ?_
          have bad1 : inRow n x3 x5 = none → spCopy A x1 x2 x3 x4 x5 = rj A 2 := fun e => by rw [es, e]
          have bad2 : inRow n' x4 x5 = none → spCopy A x1 x2 x3 x4 x5 = rj A 2 := fun e => by
            rw [es, e]
            cases inRow n x3 x5 with
            | none => rfl
            | some z => rfl
          refine ⟨fun c0 => o2 (bad1 ?_), fun c0 => ?_⟩
          · unfold inRow
            rw [dec_no (fun s hs e => by rw [e] at c0; exact i32_lt0 (by omega) c0)]
          obtain ⟨cn, hcn, ec⟩ := i32_of c0
          subst ec
          refine ⟨fun c1 => o2 (bad1 ?_), fun c1 => ?_⟩
          · unfold inRow
            split
            · rfl
            · rw [dec_no (fun s hs e => by rw [e] at c1; exact i32_lt0 (by omega) c1)]
          obtain ⟨i, hi, ei⟩ := i32_of c1
          subst ei
          refine ⟨fun c2 => o2 (bad2 ?_), fun c2 => m_g1 h rfl (m_aI h rfl d1.1 (by omega) ?_)⟩
          · unfold inRow
            split
            · rfl
            · rw [dec_no (fun s hs e => by rw [e] at c2; exact i32_lt0 (by omega) c2)]
          obtain ⟨j, hj, ej⟩ := i32_of c2
          subst ej
          rw [a3]
          refine ltS (by omega) hcn (fun c3 => o2 (bad1 ?_)) (fun c3 => m_g1 h rfl (m_aI h rfl d2.1 (by omega) ?_))
          · unfold inRow
            rw [dec_no (fun s hs e => by rw [i32_eq hcn (by omega)] at e; omega)]
          rw [b3]
          refine ltS (by omega) hcn (fun c4 => o2 (bad2 ?_)) (fun c4 => m_g1 h rfl (m_aI h rfl d1.1 (by omega) ?_))
          · unfold inRow
            rw [dec_no (fun s hs e => by rw [i32_eq hcn (by omega)] at e; omega)]
          rw [a3, i32_sub c3]
          have r1 : inRow n (Int32.ofNat i) (Int32.ofNat cn) = match dec (n - cn + 1) (Int32.ofNat i) with | none => none | some i => some (i, cn) := by unfold inRow; rw [dec_of (by omega) hcn]; rfl
          have r2 : inRow n' (Int32.ofNat j) (Int32.ofNat cn) = match dec (n' - cn + 1) (Int32.ofNat j) with | none => none | some i => some (i, cn) := by unfold inRow; rw [dec_of (by omega) hcn]; rfl
          refine ltS (by omega) hi (fun c5 => o2 (bad1 ?_)) (fun c5 => m_g1 h rfl (m_aI h rfl d2.1 (by omega) ?_))
          · rw [r1, dec_no (fun s hs e => by rw [i32_eq hi (by omega)] at e; omega)]
          rw [b3, i32_sub c4]
          refine leS hj (by omega) (fun c6 => ?_) (fun c6 => o2 (bad2 (by rw [r2, dec_no (fun s hs e => by rw [i32_eq hj (by omega)] at e; omega)])))
          rw [r1, r2, dec_of (by omega) hi, dec_of (by omega) hj] at es
          simp only at es
          rw [es] at q
          -- the two runs
          refine loopV (fun g v N => F_X3_copy_b191 Q a (Int32.ofNat p) (Int32.ofNat t) (Int32.ofNat i) (Int32.ofNat j) (Int32.ofNat cn) g v N) (fun k => Int32.ofNat k) (fun k N => FmG (fun b i => SSh r ρ b i ∧ (((b = r 0 ∨ b = r 1 ∨ b = r 2 ∨ b = r 5 ∨ b = r 6 ∨ b = r 22) → i = t) ∧ (∀ t', t' < 8 → t' ≠ t → b ≠ r 3 + 1 + t' ∧ b ≠ r 7 + 1 + t'))) M N ∧ mI N = mI M ∧ (∀ t' k', t' < 8 → mJ N (r 3 + 1 + t') k' = mJ M (r 3 + 1 + t') k') ∧ ∀ k', k' < k → mJ N (r 4) k' = f (i + k')) cn (fun k hk g N hI kk => ?_) (fun g N hI => ?_) M ⟨FmG.rf, rfl, fun _ _ _ => rfl, fun k' hk' => absurd hk' (Nat.not_lt_zero _)⟩
          · obtain ⟨fN, w1, w2, w3⟩ := hI
            have hN := fN.lay h
            refine leF hk (by omega) (m_g1 hN rfl (m_g2 hN rfl (m_aN hN rfl d1.1 (by omega) ?_)))
            rw [i32_add]
            refine m_bJ hN rfl d1.1 (by omega) (by omega) (m_uJ hN rfl (by omega) (by omega) ?_)
            rw [i32_lit 1, i32_add, w2 p _ d1.1, a5 _ (by omega)]
            refine kk _ ⟨fN.tr (FmG.sJ (ssh4 h)), w1, fun t' k' ht' => (mJ_ne (Or.inl (ne_tg (tg2 h (k := 3) rfl ht') (tg1 h (k := 4) rfl) (by omega)))).trans (w2 t' k' ht'), fun k' hk' => ?_⟩
            by_cases c : k' = k
            · rw [c, mJ_eq]
            · exact (mJ_ne (Or.inr c)).trans (w3 k' (by omega))
          · obtain ⟨fN, w1, w2, w3⟩ := hI
            refine leT (Nat.le_refl _) (by omega) ?_
            refine loopV (fun g v N => F_X3_copy_b225 Q a (Int32.ofNat t) (Int32.ofNat j) (Int32.ofNat cn) g v N) (fun k => Int32.ofNat k) (fun k N => FmG (fun b i => SSh r ρ b i ∧ (((b = r 0 ∨ b = r 1 ∨ b = r 2 ∨ b = r 5 ∨ b = r 6 ∨ b = r 22) → i = t) ∧ (∀ t', t' < 8 → t' ≠ t → b ≠ r 3 + 1 + t' ∧ b ≠ r 7 + 1 + t'))) M N ∧ mI N = mI M ∧ (∀ k', mJ N (r 3 + 1 + t) k' = if j ≤ k' ∧ k' < j + k then f (i + (k' - j)) else mJ M (r 3 + 1 + t) k') ∧ ∀ k', k' < cn → mJ N (r 4) k' = f (i + k')) cn (fun k hk g N hI kk => ?_) (fun g N hI => ?_) N ⟨fN, w1, fun k' => by rw [if_neg (by omega)]; exact w2 t k' d2.1, w3⟩
            · obtain ⟨fN, w1, w2, w3⟩ := hI
              have hN := fN.lay h
              refine leF hk (by omega) (m_g2 hN rfl (m_aN hN rfl d2.1 (by omega) (m_g1 hN rfl (m_aJ hN rfl (by omega) (by omega) ?_))))
              rw [i32_add]
              refine m_vJ hN rfl d2.1 (by omega) (by omega) ?_
              rw [i32_lit 1, i32_add, w3 k hk]
              refine kk _ ⟨fN.tr (FmG.sJ (ssh3 h d2.1)), w1, fun k' => ?_, fun k' hk' => (mJ_ne (Or.inl (ne_tg (tg1 h (k := 4) rfl) (tg2 h (k := 3) rfl d2.1) (by omega)))).trans (w3 k' hk')⟩
              by_cases c : k' = j + k
              · rw [c, mJ_eq, if_pos (by omega), show j + k - j = k by omega]
              · rw [mJ_ne (Or.inr c), w2 k']
                by_cases c2 : j ≤ k' ∧ k' < j + k
                · rw [if_pos c2, if_pos (by omega)]
                · rw [if_neg c2, if_neg (by omega)]
            · obtain ⟨fN, w1, w2, w3⟩ := hI
              refine leT (Nat.le_refl _) (by omega) ?_
              obtain ⟨R', f9⟩ := R.sh1 (v := some (.inl (so', n', fun k => if j ≤ k ∧ k < j + cn then f (i + (k - j)) else f' k))) fN ⟨by rw [w1]; exact b1, by rw [w1]; exact b2, by rw [w1]; exact b3, b4, fun k hk => by
                show _ = if j ≤ k ∧ k < j + cn then f (i + (k - j)) else f' k
                rw [w2 k]
                by_cases c2 : j ≤ k ∧ k < j + cn
                · rw [if_pos c2, if_pos c2]
                · rw [if_neg c2, if_neg c2, b5 k hk]⟩
              exact q _ r ρ R' f9
end MOP2
