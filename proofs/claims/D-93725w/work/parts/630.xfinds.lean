/-! the class's houses: all that is best -/
set_option maxRecDepth 100000
section XFINDS
variable {B : gM} {a p l : Nat} {r ρ P c : Nat → Nat}
/-- what is written -/
def SW (p l b1 b _i : Nat) : Prop := b = p ∨ b = l ∨ b = b1
theorem x_finds2 (hs : HsX B ρ a r P) (C : CsA B ρ) (hw : Wf P) (rm : RmA B ρ a c) (tb : TbA B ρ a p l) {d s : Nat} {Q : gM → Prop} (hd : 1 ≤ d ∧ d ≤ P 0) (hs5 : s < 5 ^ P 4) (hb : ∀ t, t < 5 ^ P 4 → mJ B (c 1) t = bh P d t (CT P (fun _ => false) (d - 1))) (q : Q (sI (sJ B p (125 * d + s) (CT P (fun _ => false) d s)) l (125 * d + s) (Int32.ofNat (LT P (fun _ => false) d s)))) : F_X12_finds_2 B a (Int32.ofNat s) (Int32.ofNat d) Q := by
  have hk := hw.2.2.2.2.1
  have h5 := p5_le hk.2
  have hd0 := hw.1
  have hf3 := hw.2.2.2.1
  have hb1 := hw.2.1
  obtain ⟨m1, m2, m3⟩ := rm 1 (by omega)
  have m2 : kd B (c 1) = some (true, .inr (.long, 125)) := m2
  obtain ⟨⟨p1, p2, p3⟩, l1, l2, l3⟩ := tb
  refine x_gI hs (by omega) (x_rc hs ?_)
  rw [i32_lit 1, i32_sub hd.1]
  refine x_scale hs hk.2 (by omega) (x_gI hs (by omega) (gN_i hs.1.1 m1 (aJ_i m2 (by omega) (by omega) ?_)))
  have eb : (Int32.ofNat (P 1)).toInt64 * (Int64.ofNat (scl P (d - 1)) <<< (((2 : Int32) * Int32.ofNat (P 4)).toInt64 &&& 63)) = bx P d := by
    rw [i32_lit 2, i32_mul, shl_mul _ (by omega), p2_4, i64_of (by omega)]
    unfold bx
    grind -lia
  rw [eb, hb s hs5]
  refine loopC (fun g v N => F_X12_finds_2_b35 Q a (Int32.ofNat s) (Int32.ofNat d) (bx P d) g v.1 v.2.1 v.2.2 N) (fun i => ((bsN P (bx P d) false s (fun t => bh P d t (CT P (fun _ => false) (d - 1))) i).1, Int32.ofNat (bsN P (bx P d) false s (fun t => bh P d t (CT P (fun _ => false) (d - 1))) i).2, Int32.ofNat (i + 1))) B s (fun i hi g k => ?_) (fun g => ?_)
  · show F_X12_finds_2_b35 Q a (Int32.ofNat s) (Int32.ofNat d) (bx P d) (g + 1) (bsN P (bx P d) false s (fun t => bh P d t (CT P (fun _ => false) (d - 1))) i).1 (Int32.ofNat (bsN P (bx P d) false s (fun t => bh P d t (CT P (fun _ => false) (d - 1))) i).2) (Int32.ofNat (i + 1)) B
    have k : F_X12_finds_2_b35 Q a (Int32.ofNat s) (Int32.ofNat d) (bx P d) g (bsN P (bx P d) false s (fun t => bh P d t (CT P (fun _ => false) (d - 1))) (i + 1)).1 (Int32.ofNat (bsN P (bx P d) false s (fun t => bh P d t (CT P (fun _ => false) (d - 1))) (i + 1)).2) (Int32.ofNat (i + 1 + 1)) B := k
    have es : bsN P (bx P d) false s (fun t => bh P d t (CT P (fun _ => false) (d - 1))) (i + 1) = if isLdb P s (i + 1) = true ∧ (bx P d + bh P d (s - (i + 1)) (CT P (fun _ => false) (d - 1)) < (bsN P (bx P d) false s (fun t => bh P d t (CT P (fun _ => false) (d - 1))) i).1 ∨ (false = true ∧ (bsN P (bx P d) false s (fun t => bh P d t (CT P (fun _ => false) (d - 1))) i).2 = 0)) then (bx P d + bh P d (s - (i + 1)) (CT P (fun _ => false) (d - 1)), i + 1) else bsN P (bx P d) false s (fun t => bh P d t (CT P (fun _ => false) (d - 1))) i := rfl
    rw [es] at k
    generalize bsN P (bx P d) false s (fun t => bh P d t (CT P (fun _ => false) (d - 1))) i = D at k es ⊢
    refine ltF (by omega) (by omega) (x_rc hs (x_isLoad hs C hw (by omega) (by omega) (fun y => bF n10 (gN_i hs.1.1 m1 ?_)) (fun y => bT rfl ?_)))
    · rw [i32_sub (by omega)]
      refine aJ_i m2 (by omega) (by omega) ?_
      rw [hb _ (by omega)]
      refine ⟨fun z => ?_, fun z => gN_i hs.1.1 m1 (aJ_i m2 (by omega) (by omega) ?_)⟩
      · rw [if_neg (fun y' => y'.2.elim (fun y2 => Int64.not_lt.mpr z y2) (fun y2 => by cases y2.1))] at k
        unfold F_X12_finds_2_b85
        rw [i32_lit 1, i32_add]
        exact k
      · rw [hb _ (by omega)]
        rw [if_pos ⟨isLdb_iff.mpr y, Or.inl (Int64.not_le.mp z)⟩] at k
        unfold F_X12_finds_2_b85
        rw [i32_lit 1, i32_add]
        exact k
    · rw [if_neg (fun y' => y (isLdb_iff.mp y'.1))] at k
      unfold F_X12_finds_2_b85
      rw [i32_lit 1, i32_add]
      exact k
  · show F_X12_finds_2_b35 Q a (Int32.ofNat s) (Int32.ofNat d) (bx P d) (g + 1) (bsN P (bx P d) false s (fun t => bh P d t (CT P (fun _ => false) (d - 1))) s).1 (Int32.ofNat (bsN P (bx P d) false s (fun t => bh P d t (CT P (fun _ => false) (d - 1))) s).2) (Int32.ofNat (s + 1)) B
    have hsub : d - 1 + 1 = d := by omega
    have eC : Int64.ofNat (P 3) * bh P d s (CT P (fun _ => false) (d - 1)) + Int64.ofNat (4 - P 3) * (bsN P (bx P d) false s (fun t => bh P d t (CT P (fun _ => false) (d - 1))) s).1 = CT P (fun _ => false) d s := by
      rw [← hsub]
      rfl
    have eL : (bsN P (bx P d) false s (fun t => bh P d t (CT P (fun _ => false) (d - 1))) s).2 = LT P (fun _ => false) d s := by
      rw [← hsub]
      rfl
    refine ltT (by omega) (by omega) (gN_i hs.1.1 p1 (x_gI hs (by omega) (gN_i hs.1.1 m1 (aJ_i m2 (by omega) (by omega) (x_gI hs (by omega) ?_)))))
    rw [hb s hs5, i32_lit 4, i32_sub (by omega), i64_of (by omega), i64_of (by omega), eC, eL, i32_lit 125, i32_mul, i32_add]
    exact uJ_i p2 (by omega) (by omega) (gN_i (M := sJ B _ _ _) hs.1.1 l1 (uI_i (M := sJ B _ _ _) l2 (by omega) (by omega) q))
theorem x_findsC (hs : HsX B ρ a r P) (C : CsA B ρ) (hw : Wf P) (rm : RmA B ρ a c) (tb : TbA B ρ a p l) {Q : gM → Prop} {Lc Ls u v : Nat} (q : ∀ N, FmG (SW p l (c 1)) B N → FdA N P p l (P 0 + 1) → Q N) : ∃ n, F_X12_finds_b57 Q Lc Ls a n (0 : Int32) u v B := by
  have hk := hw.2.2.2.2.1
  have h5 := p5_le hk.2
  have hd0 := hw.1
  have T63 := hs.1.2
  have Tp := tb.1.2.2
  have Tl := tb.2.2.2
  have Tb := (rm 1 (by omega)).2.2
  have tg : ∀ {x y k j : Nat}, ρ x = Tg a k → ρ y = Tg a j → k ≠ j → k < 64 → j < 64 → x ≠ y := fun hx hy hkj h1 h2 e => by
    rw [e, hy] at hx
    exact hkj (Tg_inj h2 h1 hx).2.symm
  have npl : p ≠ l := tg Tp Tl (by omega) (by omega) (by omega)
  have npb : p ≠ c 1 := tg Tp Tb (by omega) (by omega) (by omega)
  have nlb : l ≠ c 1 := tg Tl Tb (by omega) (by omega) (by omega)
  have fxS : ∀ {N : gM}, FmG (SW p l (c 1)) B N → Fx (SF a) ρ B ρ N := fun f => f.fx (fun b i z => by
    rcases z with z | z | z
    · rw [z]; exact Or.inr (Or.inl Tp)
    · rw [z]; exact Or.inr (Or.inr (Or.inl Tl))
    · rw [z]; exact Or.inr (Or.inr (Or.inr Tb)))
  have st : ∀ N, FmG (SW p l (c 1)) B N → HsX N ρ a r P ∧ CsA N ρ ∧ RmA N ρ a c ∧ TbA N ρ a p l := fun N f => by
    have f' := (fxS f).mono (fun _ _ z => z.sh)
    refine ⟨f'.hsH hs, f'.csH C, ?_, ?_⟩
    · unfold RmA
      rw [f.1.1, f.1.2.1]
      exact rm
    · unfold TbA
      rw [f.1.1, f.1.2.1]
      exact tb
  -- one table's end
  have l92 : ∀ N, FmG (SW p l (c 1)) B N → FdA N P p l 1 → ∃ n, F_X12_finds_b92 Q Lc Ls a n (1 : Int32) u v N := by
    intro N f w
    refine loopV (fun g v' N => F_X12_finds_b92 Q Lc Ls a g v' u v N) (fun i => Int32.ofNat (i + 1)) (fun i N => FmG (SW p l (c 1)) B N ∧ FdA N P p l (i + 1)) (P 0) (fun i hi g N hI k => ?_) (fun g N hI => ?_) N ⟨f, w⟩
    · obtain ⟨f, w⟩ := hI
      obtain ⟨hsN, CN, rmN, tbN⟩ := st N f
      refine x_gI hsN (by omega) (ltF (by omega) (by omega) ?_)
      -- behind
      refine loopV (fun g' v' N => F_X12_finds_b102 Q Lc Ls (F_X12_finds_b92 Q Lc Ls a g) a (Int32.ofNat (i + 1)) g' v' u v N) (fun s => Int32.ofNat s) (fun s N => FmG (SW p l (c 1)) B N ∧ FdA N P p l (i + 1) ∧ ∀ t, t < s → mJ N (c 1) t = bh P (i + 1) t (CT P (fun _ => false) i)) (5 ^ P 4) (fun s hs5 g' N hI k' => ?_) (fun g' N hI => ?_) N ⟨f, w, fun t ht => absurd ht (Nat.not_lt_zero _)⟩
      · obtain ⟨f, w, wb⟩ := hI
        obtain ⟨hsN, CN, rmN, tbN⟩ := st N f
        obtain ⟨m1, m2, m3⟩ := rmN 1 (by omega)
        have m2 : kd N (c 1) = some (true, .inr (.long, 125)) := m2
        have hm := sm2_le hw s
        refine x_rc hsN (x_states hsN hk (leF hs5 (by omega) (gN_i hsN.1.1 m1 (gR_i hsN.1.1 (x_rc hsN ?_)))))
        rw [i32_lit 1, i32_sub (by omega), Nat.add_sub_cancel]
        refine x_scale hsN hk.2 (by omega) ⟨p, tbN.1.1, x_rc hsN ?_⟩
        rw [i32_lit 125, i32_mul]
        refine x_comes (d := i + 1) hsN CN hw ⟨by omega, by omega⟩ hs5 tbN.1.2.1 (x_rc hsN (x_holding hsN CN hk.2 (by omega) (x_rc hsN (x_scale hsN hk.2 (by omega) (x_gI hsN (by omega) ?_)))))
        have ev : cmN P (i + 1) s (fun t => mJ N p (125 * (i + 1 - 1) + t)) (2 ^ P 4) + (Int32.ofNat (sm P 2 s)).toInt64 * (Int64.ofNat (scl P i) <<< (((2 : Int32) * Int32.ofNat (P 4)).toInt64 &&& 63)) = bh P (i + 1) s (CT P (fun _ => false) i) := by
          rw [i32_lit 2, i32_mul, shl_mul _ (by omega), p2_4, i64_of (by omega)]
          rw [← bh_congr (f := fun t => mJ N p (125 * (i + 1 - 1) + t)) hk.2 hs5 (fun t ht => (w i (by omega) t ht).1)]
          unfold bh
          rw [bh_cm, Nat.add_sub_cancel]
          grind -lia
        rw [ev]
        refine uJ_i m2 (by omega) (by omega) ?_
        rw [i32_add]
        refine k' _ ⟨f.tr (FmG.sJ (Or.inr (Or.inr rfl))), fun d hd t ht => ⟨(mJ_ne (Or.inl npb)).trans (w d hd t ht).1, (w d hd t ht).2⟩, fun t ht => ?_⟩
        by_cases e : t = s
        · rw [e, mJ_eq]
        · exact (mJ_ne (Or.inr e)).trans (wb t (by omega))
      · obtain ⟨f, w, wb⟩ := hI
        obtain ⟨hsN, CN, rmN, tbN⟩ := st N f
        refine x_rc hsN (x_states hsN hk (leT (Nat.le_refl _) (by omega) ?_))
        refine loopV (fun g' v' N => F_X12_finds_b168 Q Lc Ls (F_X12_finds_b92 Q Lc Ls a g) a (Int32.ofNat (i + 1)) g' v' u v N) (fun s => Int32.ofNat s) (fun s N => FmG (SW p l (c 1)) B N ∧ FdA N P p l (i + 1) ∧ (∀ t, t < 5 ^ P 4 → mJ N (c 1) t = bh P (i + 1) t (CT P (fun _ => false) i)) ∧ ∀ t, t < s → mJ N p (125 * (i + 1) + t) = CT P (fun _ => false) (i + 1) t ∧ mI N l (125 * (i + 1) + t) = Int32.ofNat (LT P (fun _ => false) (i + 1) t)) (5 ^ P 4) (fun s hs5 g' N hI k' => ?_) (fun g' N hI => ?_) N ⟨f, w, wb, fun t ht => absurd ht (Nat.not_lt_zero _)⟩
        · obtain ⟨f, w, wb, wt⟩ := hI
          obtain ⟨hsN, CN, rmN, tbN⟩ := st N f
          refine x_rc hsN (x_states hsN hk (leF hs5 (by omega) (x_rc hsN (x_finds2 hsN CN hw rmN tbN ⟨by omega, by omega⟩ hs5 wb ?_))))
          rw [i32_lit 1, i32_add]
          refine k' _ ⟨(f.tr (FmG.sJ (Or.inl rfl))).tr (FmG.sI (Or.inr (Or.inl rfl))), fun d hd t ht => ⟨(mJ_ne (Or.inr (by omega))).trans (w d hd t ht).1, (mI_ne (Or.inr (by omega))).trans (w d hd t ht).2⟩, fun t ht => (mJ_ne (Or.inl npb.symm)).trans (wb t ht), fun t ht => ?_⟩
          by_cases e : t = s
          · rw [e]; exact ⟨mJ_eq, mI_eq⟩
          · exact ⟨(mJ_ne (Or.inr (by omega))).trans (wt t (by omega)).1, (mI_ne (Or.inr (by omega))).trans (wt t (by omega)).2⟩
        · obtain ⟨f, w, wb, wt⟩ := hI
          obtain ⟨hsN, CN, rmN, tbN⟩ := st N f
          refine x_rc hsN (x_states hsN hk (leT (Nat.le_refl _) (by omega) ?_))
          rw [i32_lit 1, i32_add]
          refine k N ⟨f, fun d hd t ht => ?_⟩
          by_cases e : d = i + 1
          · rw [e]; exact wt t ht
          · exact w d (by omega) t ht
    · obtain ⟨f, w⟩ := hI
      exact x_gI (st N f).1 (by omega) (ltT (by omega) (by omega) (q N f w))
  refine loopV (fun g v' N => F_X12_finds_b57 Q Lc Ls a g v' u v N) (fun s => Int32.ofNat s) (fun s N => FmG (SW p l (c 1)) B N ∧ ∀ t, t < s → mJ N p t = CT P (fun _ => false) 0 t ∧ mI N l t = Int32.ofNat (LT P (fun _ => false) 0 t)) (5 ^ P 4) (fun s hs5 g N hI k => ?_) (fun g N hI => ?_) B ⟨FmG.rf, fun t ht => absurd ht (Nat.not_lt_zero _)⟩
  · obtain ⟨f, w⟩ := hI
    obtain ⟨hsN, CN, rmN, tbN⟩ := st N f
    have hm := sm4_le hw s
    obtain ⟨⟨p1, p2, p3⟩, l1, l2, l3⟩ := tbN
    refine x_rc hsN (x_states hsN hk (leF hs5 (by omega) (gR_i hsN.1.1 (x_rc hsN (x_leaving hsN CN hk.2 (by omega) ⟨p, p1, uJ_i p2 (by omega) (by omega) (gR_i (M := sJ N _ _ _) hsN.1.1 ⟨l, l1, uI_i (M := sJ N _ _ _) l2 (by omega) (by omega) ?_⟩)⟩)))))
    rw [i32_lit 1, i32_add, i64_of (by omega)]
    refine k _ ⟨(f.tr (FmG.sJ (Or.inl rfl))).tr (FmG.sI (Or.inr (Or.inl rfl))), fun t ht => ?_⟩
    by_cases e : t = s
    · rw [e]; exact ⟨mJ_eq, mI_eq⟩
    · exact ⟨(mJ_ne (Or.inr e)).trans (w t (by omega)).1, (mI_ne (Or.inr e)).trans (w t (by omega)).2⟩
  · obtain ⟨f, w⟩ := hI
    obtain ⟨hsN, CN, rmN, tbN⟩ := st N f
    refine x_rc hsN (x_states hsN hk (leT (Nat.le_refl _) (by omega) (l92 N f (fun d hd t ht => ?_))))
    rw [show d = 0 by omega, Nat.mul_zero, Nat.zero_add]
    exact w t ht
end XFINDS
