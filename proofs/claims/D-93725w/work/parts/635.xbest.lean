/-! the class's houses: costs and best loads -/
set_option maxRecDepth 100000
theorem sR_same {M : gM} {a k : Nat} {x : Option Nat} (h : mR M a k = x) : sR M a k x = M := by
  have e : (fun b j => if b = a ∧ j = k then x else M.2.2.2.1 b j) = M.2.2.2.1 := by
    funext b j
    by_cases c : b = a ∧ j = k
    · rw [if_pos c, c.1, c.2]; exact h.symm
    · rw [if_neg c]
  unfold sR
  rw [e]
/-- all is found: nothing more is wanted -/
def Kp13 (M M' : gM) (a : Nat) : Prop := mR M a 13 ≠ none → ∀ k, 13 ≤ k → k ≤ 16 → mR M' a k = mR M a k
section XBEST
variable {M : gM} {a : Nat} {ρ P : Nat → Nat}
theorem x_finds (h : HX M ρ a P) (C : CsA M ρ) {Lc Ls : Nat} {Q : gM → Prop} (hL : ndC M a ≤ Lc ∧ ndS M a ≤ Ls) (q : ∀ M' ρ' p l, Fx (SF a) ρ M ρ' M' → HX M' ρ' a P → TbA M' ρ' a p l → FdA M' P p l (P 0 + 1) → (ndC M' a = 0 ∧ ndS M' a = 0) → Kp13 M M' a → Q M') : F_X12_finds Lc Ls M a Q := by
  obtain ⟨⟨r, hs⟩, ca, hw⟩ := id h
  unfold ndC ndS at hL
  refine ⟨(if mR M a 13 = none then 4 else 0), (if mR M a 13 = none then 1250 else 0), ⟨by omega, by omega⟩, x_rc hs (x_makesRoom h (fun e => by rw [if_pos e, if_pos e]; omega) (fun M1 ρ1 c f1 h1 rm e10 e12 same => ?_))⟩
  obtain ⟨⟨r1, hs1⟩, ca1, -⟩ := id h1
  have C1 := (f1.mono (fun _ _ z => z.sh)).csH C
  have k13 : Kp13 M M1 a := fun z k _ _ => by rw [same z]
  have sA : ∀ {i}, 10 ≤ i → i ≤ 16 → SF a (Tg a 63) i := fun h1 h2 => Or.inl ⟨rfl, h1, h2⟩
  -- the end, all rows being there
  have fin : ∀ (B : gM) (ρB : Nat → Nat) (p l u v : Nat), Fx (SF a) ρ M ρB B → HsX B ρB a r1 P → CsA B ρB → RmA B ρB a c → TbA B ρB a p l → Kp13 M B a → pI B 12 a 12 (1 : Int32) fun M_2 => ∃ n_3, F_X12_finds_b57 Q Lc Ls a n_3 (0 : Int32) u v M_2 := by
    intro B ρB p l u v fB hsB CB rmB tbB kB
    refine ⟨hsB.1.1, ?_⟩
    have f2 : Fx (SF a) ρB B ρB (sI B a 12 (1 : Int32)) := Fx.sI (by rw [hsB.1.2]; exact sA (by omega) (by omega))
    have f2H := f2.mono (fun _ _ z => z.sh)
    refine x_findsC (f2H.hsH hsB) (f2H.csH CB) hw (c := c) (p := p) (l := l) rmB tbB (fun N f w => ?_)
    have Tp := tbB.1.2.2
    have Tl := tbB.2.2.2
    have Tb := (rmB 1 (by omega)).2.2
    have f3 : Fx (SF a) ρB (sI B a 12 (1 : Int32)) ρB N := f.fx (fun b i z => by
      rcases z with z | z | z
      · rw [z]; exact Or.inr (Or.inl Tp)
      · rw [z]; exact Or.inr (Or.inr (Or.inl Tl))
      · rw [z]; exact Or.inr (Or.inr (Or.inr Tb)))
    have f3H := f3.mono (fun _ _ z => z.sh)
    have na : ¬ SW p l (c 1) a 12 := by
      have T := hsB.1.2
      rintro (e | e | e)
      · rw [e, Tp] at T; have := (Tg_inj (by omega) (by omega) T).2; omega
      · rw [e, Tl] at T; have := (Tg_inj (by omega) (by omega) T).2; omega
      · rw [e, Tb] at T; have := (Tg_inj (by omega) (by omega) T).2; omega
    have rmN : RmA N ρB a c := by unfold RmA; rw [f.1.1, f.1.2.1]; exact rmB
    have tbN : TbA N ρB a p l := by unfold TbA; rw [f.1.1, f.1.2.1]; exact tbB
    refine q N ρB p l ((fB.tr f2).tr f3) ⟨⟨r1, f3H.hsH (f2H.hsH hsB)⟩, ⟨Or.inr ⟨c, rmN⟩, Or.inr ⟨p, l, tbN⟩, Or.inr ⟨(f.2 a 12 na).1.trans mI_eq, ⟨c, rmN⟩, p, l, tbN, w⟩⟩, hw⟩ tbN w ?_ (fun z k h1 h2 => ?_)
    · have e1 := (rmN 0 (by omega)).1
      have e2 := tbN.1.1
      unfold ndC ndS
      rw [if_neg (by rw [e1]; exact fun z => by cases z), if_neg (by rw [e2]; exact fun z => by cases z), if_neg (by rw [e1]; exact fun z => by cases z), if_neg (by rw [e2]; exact fun z => by cases z)]
      exact ⟨rfl, rfl⟩
    · rw [f.1.2.1]
      exact kB z k h1 h2
  have budC : ∀ {x : Nat}, mR M a 10 = none → x = (if mR M a 13 = none then 4 else 0) → x + 2 ≤ Lc := fun e hx => by rw [if_pos e, if_pos e] at hL; omega
  have budS : ∀ {x : Nat}, mR M a 10 = none → x = (if mR M a 13 = none then 1250 else 0) → x + 1750 ≤ Ls := fun e hx => by rw [if_pos e, if_pos e] at hL; omega
  refine gR_i hs1.1.1 ⟨fun e => ?_, fun p e => gR_i hs1.1.1 ?_⟩
  · have e0 : mR M a 10 = none := by rw [← e10]; exact e
    have bC := budC e0 rfl
    have bS := budS e0 rfl
    have e11 : mR M1 a 11 = none := by
      rcases ca1.2.1 with z | ⟨p, l, z⟩
      · exact z.2
      · have := z.1.1; rw [e] at this; cases this
    refine x_new (k := 10) (S := SF a) hs1.1 rfl (by omega) (by omega) (sA (by omega) (by omega)) (fun M2 ρ2 p f2 h2 r2 k2 t2 _ s2 i2 => ?_)
    refine gR_i h2.1 ⟨fun _ => ?_, fun l z => by rw [s2 11 (by omega), e11] at z; cases z⟩
    refine x_new (k := 11) (S := SF a) h2 rfl (by omega) (by omega) (sA (by omega) (by omega)) (fun M3 ρ3 l f3 h3 r3 k3 t3 _ s3 i3 => ?_)
    have f12 := (f1.tr f2).tr f3
    have f23H := (f2.tr f3).mono (fun _ _ z => z.sh)
    have lp := f3.2 p (live_of k2)
    refine fin M3 ρ3 p l _ _ f12 (f23H.hsH hs1) (f23H.csH C1) (fun k hk => ?_) ⟨⟨(s3 10 (by omega)).trans r2, lp.1.1.trans k2, lp.1.2.trans t2⟩, r3, k3, t3⟩ (fun z k h1 h2 => (s3 k (by omega)).trans ((s2 k (by omega)).trans (k13 z k h1 h2)))
    obtain ⟨g1, g2, g3⟩ := rm k hk
    have lc := (f2.tr f3).2 (c k) (live_of g2)
    exact ⟨(s3 _ (by omega)).trans ((s2 _ (by omega)).trans g1), lc.1.1.trans g2, lc.1.2.trans g3⟩
  · have e0 := e
    rcases ca1.2.1 with z | ⟨p', l, z⟩
    · rw [e] at z; cases z.1
    · have hp : p' = p := by have := z.1.1; rw [e] at this; cases this; rfl
      subst hp
      refine ⟨hs1.1.1, ?_⟩
      rw [sR_same rfl]
      refine gR_i hs1.1.1 ⟨fun y => (by rw [z.2.1] at y; cases y), fun l' y => gR_i hs1.1.1 ⟨hs1.1.1, ?_⟩⟩
      rw [sR_same rfl]
      exact fin M1 ρ1 p' l _ _ f1 hs1 C1 rm z k13
theorem x_worths (h : HX M ρ a P) (C : CsA M ρ) {Lc Ls : Nat} {Q : Nat → gM → Prop} (hL : ndC M a ≤ Lc ∧ ndS M a ≤ Ls) (q : ∀ M' ρ' p l, Fx (SF a) ρ M ρ' M' → HX M' ρ' a P → TbA M' ρ' a p l → FdA M' P p l (P 0 + 1) → (ndC M' a = 0 ∧ ndS M' a = 0) → Kp13 M M' a → Q p M') : F_X12_worths Lc Ls M a Q := by
  obtain ⟨⟨r, hs⟩, ca, hw⟩ := id h
  refine gI_i hs.1.1 ?_
  rcases ca.2.2 with z | ⟨z, ⟨c, rm⟩, p, l, tb, w⟩
  · rw [z]
    refine bF' rfl ⟨Lc, Ls, ⟨by omega, by omega⟩, x_rc hs (x_finds h C hL (fun M' ρ' p l f h' tb w nd kk => ?_))⟩
    obtain ⟨⟨r', hs'⟩, -, -⟩ := id h'
    exact gN_i hs'.1.1 tb.1.1 (q M' ρ' p l f h' tb w nd kk)
  · rw [z]
    refine bT' n10 (gN_i hs.1.1 tb.1.1 (q M ρ p l Fx.rf h tb w ?_ (fun _ _ _ _ => rfl)))
    have e1 := (rm 0 (by omega)).1
    have e2 := tb.1.1
    unfold ndC ndS
    rw [if_neg (by rw [e1]; exact fun z => by cases z), if_neg (by rw [e2]; exact fun z => by cases z), if_neg (by rw [e1]; exact fun z => by cases z), if_neg (by rw [e2]; exact fun z => by cases z)]
    exact ⟨rfl, rfl⟩
theorem x_cost (h : HX M ρ a P) (C : CsA M ρ) {Lc Ls d s : Nat} {Q : Int64 → gM → Prop} (hL : ndC M a ≤ Lc ∧ ndS M a ≤ Ls) (hd : d ≤ P 0) (hs5 : s < 5 ^ P 4) (q : ∀ M' ρ', Fx (SF a) ρ M ρ' M' → HX M' ρ' a P → (ndC M' a = 0 ∧ ndS M' a = 0) → Kp13 M M' a → Q (CT P nm d s) M') : F_X12_cost Lc Ls M a (Int32.ofNat d) (Int32.ofNat s) Q := by
  obtain ⟨⟨r, hs⟩, ca, hw⟩ := id h
  have h5 := p5_le hw.2.2.2.2.1.2
  have hd0 := hw.1
  refine ⟨Lc, Ls, ⟨by omega, by omega⟩, x_rc hs (x_worths h C hL (fun M' ρ' p l f h' tb w nd kk => ?_))⟩
  rw [i32_lit 125, i32_mul, i32_add]
  refine aJ_i tb.1.2.1 (by omega) (by omega) ?_
  rw [(w d (by omega) s hs5).1]
  exact q M' ρ' f h' nd kk
theorem x_best (h : HX M ρ a P) (C : CsA M ρ) {Lc Ls d s : Nat} {Q : Int32 → gM → Prop} (hL : ndC M a ≤ Lc ∧ ndS M a ≤ Ls) (hd : d ≤ P 0) (hs5 : s < 5 ^ P 4) (q : ∀ M' ρ', Fx (SF a) ρ M ρ' M' → HX M' ρ' a P → (ndC M' a = 0 ∧ ndS M' a = 0) → Kp13 M M' a → Q (Int32.ofNat (LT P nm d s)) M') : F_X12_best Lc Ls M a (Int32.ofNat d) (Int32.ofNat s) Q := by
  obtain ⟨⟨r, hs⟩, ca, hw⟩ := id h
  have h5 := p5_le hw.2.2.2.2.1.2
  have hd0 := hw.1
  refine ⟨Lc, Ls, ⟨by omega, by omega⟩, x_rc hs (x_worths h C hL (fun M' ρ' p l f h' tb w nd kk => ?_))⟩
  obtain ⟨⟨r', hs'⟩, -, -⟩ := id h'
  refine gN_i hs'.1.1 tb.2.1 ?_
  rw [i32_lit 125, i32_mul, i32_add]
  refine aI_i tb.2.2.1 (by omega) (by omega) ?_
  rw [(w d (by omega) s hs5).2]
  exact q M' ρ' f h' nd kk
end XBEST
