/-! the class's houses: what they keep -/
set_option maxRecDepth 100000
/-- a frame: live cells stay, but for these places (tag, field) -/
def Fx (S : Nat → Nat → Prop) (ρ : Nat → Nat) (M : gM) (ρ' : Nat → Nat) (M' : gM) : Prop := gl M' = gl M ∧ ∀ b, kd M b ≠ none → (kd M' b = kd M b ∧ ρ' b = ρ b) ∧ ∀ i, ¬ S (ρ b) i → mI M' b i = mI M b i ∧ mJ M' b i = mJ M b i ∧ mR M' b i = mR M b i
section FX
variable {S S' : Nat → Nat → Prop} {ρ ρ' ρ1 ρ2 : Nat → Nat} {M M' M1 M2 : gM}
theorem Fx.rf : Fx S ρ M ρ M := ⟨rfl, fun _ _ => ⟨⟨rfl, rfl⟩, fun _ _ => ⟨rfl, rfl, rfl⟩⟩⟩
theorem Fx.tr (h : Fx S ρ M ρ1 M1) (g : Fx S ρ1 M1 ρ2 M2) : Fx S ρ M ρ2 M2 := by
  refine ⟨g.1.trans h.1, fun b hb => ?_⟩
  obtain ⟨⟨a1, a2⟩, a3⟩ := h.2 b hb
  obtain ⟨⟨b1, b2⟩, b3⟩ := g.2 b (by rw [a1]; exact hb)
  refine ⟨⟨b1.trans a1, b2.trans a2⟩, fun i z => ?_⟩
  have c1 := a3 i z
  have c2 := b3 i (by rw [a2]; exact z)
  exact ⟨c2.1.trans c1.1, c2.2.1.trans c1.2.1, c2.2.2.trans c1.2.2⟩
theorem Fx.mono (h : Fx S ρ M ρ' M') (hs : ∀ t i, S t i → S' t i) : Fx S' ρ M ρ' M' := ⟨h.1, fun b hb => ⟨(h.2 b hb).1, fun i z => (h.2 b hb).2 i (fun y => z (hs _ i y))⟩⟩
theorem Fx.sI {b i : Nat} {x : Int32} (h : S (ρ b) i) : Fx S ρ M ρ (sI M b i x) := ⟨rfl, fun c _ => ⟨⟨rfl, rfl⟩, fun j z => ⟨mI_ne (by
  by_cases e : c = b
  · right
    intro e2
    exact z (by rw [e, e2]; exact h)
  · exact Or.inl e), rfl, rfl⟩⟩⟩
theorem Fx.sJ {b i : Nat} {x : Int64} (h : S (ρ b) i) : Fx S ρ M ρ (sJ M b i x) := ⟨rfl, fun c _ => ⟨⟨rfl, rfl⟩, fun j z => ⟨rfl, mJ_ne (by
  by_cases e : c = b
  · right
    intro e2
    exact z (by rw [e, e2]; exact h)
  · exact Or.inl e), rfl⟩⟩⟩
theorem Fx.sR {b i : Nat} {x : Option Nat} (h : S (ρ b) i) : Fx S ρ M ρ (sR M b i x) := ⟨rfl, fun c _ => ⟨⟨rfl, rfl⟩, fun j z => ⟨rfl, rfl, mR_ne (by
  by_cases e : c = b
  · right
    intro e2
    exact z (by rw [e, e2]; exact h)
  · exact Or.inl e)⟩⟩⟩
/-- tags with one more cell -/
def upT (ρ : Nat → Nat) (q t : Nat) : Nat → Nat := fun b => if b = q then t else ρ b
theorem upT_eq (ρ : Nat → Nat) (q t : Nat) : upT ρ q t q = t := if_pos rfl
theorem upT_ne {ρ : Nat → Nat} {q t b : Nat} (h : b ≠ q) : upT ρ q t b = ρ b := if_neg h
theorem Fx.sN {q t : Nat} {k : Nat ⊕ (FieldType × Nat)} (hq : kd M q = none) : Fx S ρ M (upT ρ q t) (sN M q k) := ⟨rfl, fun c hc => by
  have e : c ≠ q := fun e => hc (by rw [e]; exact hq)
  exact ⟨⟨if_neg e, upT_ne e⟩, fun i _ => ⟨if_neg e, if_neg e, if_neg e⟩⟩⟩
theorem FmG.fx {S0 : Nat → Nat → Prop} (f : FmG S0 M M') (h : ∀ b i, S0 b i → S (ρ b) i) : Fx S ρ M ρ M' := ⟨f.1.2.2, fun b _ => ⟨⟨by rw [f.1.1], rfl⟩, fun i z => ⟨(f.2 b i (fun y => z (h b i y))).1, (f.2 b i (fun y => z (h b i y))).2, by rw [f.1.2.1]⟩⟩⟩
theorem Fx.cs (f : Fx S ρ M ρ' M') (hS : ∀ i, ¬ S 500 i) (h : CsA M ρ) : CsA M' ρ' := by
  obtain ⟨h1, h2, h3⟩ := h
  have c0 := f.2 (gl M 0) (by rw [h2.1]; exact fun z => by cases z)
  refine ⟨fun j hj => ?_, ?_, fun i hi => ?_⟩
  · obtain ⟨v, g1, g2, g3, g4, g5⟩ := h1 j hj
    rw [f.1]
    have c1 := f.2 _ (show kd M (gl M (j + 1)) ≠ none by rw [g1.1]; exact fun z => by cases z)
    have c2 := f.2 v (by rw [g4.1]; exact fun z => by cases z)
    have v1 := fun i => c1.2 i (by rw [g1.2]; exact hS i)
    have v2 := fun i => c2.2 i (by rw [g4.2]; exact hS i)
    exact ⟨v, ⟨c1.1.1.trans g1.1, c1.1.2.trans g1.2⟩, (v1 0).2.2.trans g2, (v1 1).1.trans g3, ⟨c2.1.1.trans g4.1, c2.1.2.trans g4.2⟩, fun i hi => ⟨(v2 i).1.trans (g5 i hi).1, (g5 i hi).2⟩⟩
  · rw [f.1]
    exact ⟨c0.1.1.trans h2.1, c0.1.2.trans h2.2⟩
  · rw [f.1]
    exact (c0.2 i (by rw [h2.2]; exact hS i)).1.trans (h3 i hi)
theorem Fx.hs (f : Fx S ρ M ρ' M') {a : Nat} {r P : Nat → Nat} (hS : ∀ i, i < 10 → ¬ S (Tg a 63) i) (hS2 : ∀ w i, w < 5 → ¬ S (Tg a (5 + w)) i) (h : HsX M ρ a r P) : HsX M' ρ' a r P := by
  obtain ⟨h0, h1, h2⟩ := h
  have c0 := f.2 a (by rw [h0.1]; exact fun z => by cases z)
  have v0 := fun i hi => c0.2 i (by rw [h0.2]; exact hS i hi)
  refine ⟨⟨c0.1.1.trans h0.1, c0.1.2.trans h0.2⟩, fun i hi => (v0 i (by omega)).1.trans (h1 i hi), fun w hw => ?_⟩
  obtain ⟨g1, g2, g3⟩ := h2 w hw
  have c := f.2 (r w) (by rw [g2.1]; exact fun z => by cases z)
  have v := fun i => c.2 i (by rw [g2.2]; exact hS2 w i hw)
  exact ⟨(v0 (5 + w) (by omega)).2.2.trans g1, ⟨c.1.1.trans g2.1, c.1.2.trans g2.2⟩, fun i hi => (v i).1.trans (g3 i hi)⟩
end FX
/-- what a house's own work changes -/
def SH (a t i : Nat) : Prop := (t = Tg a 63 ∧ 10 ≤ i ∧ i ≤ 16) ∨ ∃ k, 10 ≤ k ∧ k ≤ 16 ∧ t = Tg a k
theorem SH.n5 (a : Nat) {i : Nat} : ¬ SH a 500 i := by
  rintro (⟨e, -⟩ | ⟨k, h1, h2, e⟩)
  · unfold Tg at e; omega
  · unfold Tg at e; omega
/-- the room for its work: tried, behind, ones, twos -/
def RmA (M : gM) (ρ : Nat → Nat) (a : Nat) (c : Nat → Nat) : Prop := ∀ k, k < 4 → mR M a (13 + k) = some (c k) ∧ kd M (c k) = some (true, .inr (.long, if k = 0 then 875 else 125)) ∧ ρ (c k) = Tg a (13 + k)
/-- its tables -/
def TbA (M : gM) (ρ : Nat → Nat) (a p l : Nat) : Prop := (mR M a 10 = some p ∧ kd M p = some (true, .inr (.long, 875)) ∧ ρ p = Tg a 10) ∧ mR M a 11 = some l ∧ kd M l = some (true, .inr (.int, 875)) ∧ ρ l = Tg a 11
def FdA (M : gM) (P : Nat → Nat) (p l n : Nat) : Prop := ∀ d, d < n → ∀ s, s < 5 ^ P 4 → mJ M p (125 * d + s) = CT P (fun _ => false) d s ∧ mI M l (125 * d + s) = Int32.ofNat (LT P (fun _ => false) d s)
def CaX (M : gM) (ρ : Nat → Nat) (a : Nat) (P : Nat → Nat) : Prop := (mR M a 13 = none ∨ ∃ c, RmA M ρ a c) ∧ ((mR M a 10 = none ∧ mR M a 11 = none) ∨ ∃ p l, TbA M ρ a p l) ∧ (mI M a 12 = 0 ∨ (mI M a 12 = 1 ∧ (∃ c, RmA M ρ a c) ∧ ∃ p l, TbA M ρ a p l ∧ FdA M P p l (P 0 + 1)))
/-- a whole house -/
def HX (M : gM) (ρ : Nat → Nat) (a : Nat) (P : Nat → Nat) : Prop := (∃ r, HsX M ρ a r P) ∧ CaX M ρ a P ∧ Wf P
def ndC (M : gM) (a : Nat) : Nat := (if mR M a 13 = none then 4 else 0) + (if mR M a 10 = none then 2 else 0)
def ndS (M : gM) (a : Nat) : Nat := (if mR M a 13 = none then 1250 else 0) + (if mR M a 10 = none then 1750 else 0)
theorem nd_le (M : gM) (a : Nat) : ndC M a ≤ 6 ∧ ndS M a ≤ 3000 := by
  unfold ndC ndS
  constructor
  · split <;> split <;> omega
  · split <;> split <;> omega
section XC
variable {M M' : gM} {a : Nat} {r ρ ρ' P : Nat → Nat}
theorem Tg_inj {a b k j : Nat} (hk : k < 64) (hj : j < 64) (h : Tg a k = Tg b j) : a = b ∧ k = j := by unfold Tg at h; omega
theorem Tg_ge (a k : Nat) : 100000 ≤ Tg a k := by unfold Tg; omega
theorem SH.o {b k i : Nat} (hb : b ≠ a) (hk : k < 64) : ¬ SH a (Tg b k) i := by
  rintro (⟨e, -⟩ | ⟨j, h1, h2, e⟩)
  · exact hb (Tg_inj hk (by omega) e).1
  · exact hb (Tg_inj hk (by omega) e).1
theorem SH.h {k i : Nat} (hk : k < 10 ∨ (16 < k ∧ k < 63)) : ¬ SH a (Tg a k) i := by
  rintro (⟨e, -⟩ | ⟨j, h1, h2, e⟩)
  · have := (Tg_inj (by omega) (by omega) e).2; omega
  · have := (Tg_inj (by omega) (by omega) e).2; omega
theorem SH.f {i : Nat} (hi : i < 10 ∨ 16 < i) : ¬ SH a (Tg a 63) i := by
  rintro (⟨-, h1, h2⟩ | ⟨j, h1, h2, e⟩)
  · omega
  · have := (Tg_inj (by omega) (by omega) e).2; omega
/-- a house's rows stay by any house's work -/
theorem Fx.hsH {b : Nat} (f : Fx (SH a) ρ M ρ' M') (h : HsX M ρ b r P) : HsX M' ρ' b r P := f.hs (fun i hi => by
  by_cases e : b = a
  · rw [e]; exact SH.f (Or.inl hi)
  · exact SH.o e (by omega)) (fun w i hw => by
  by_cases e : b = a
  · rw [e]; exact SH.h (Or.inl (by omega))
  · exact SH.o e (by omega)) h
theorem Fx.csH (f : Fx (SH a) ρ M ρ' M') (h : CsA M ρ) : CsA M' ρ' := f.cs (fun i => SH.n5 a) h
theorem live_of {b : Nat} {x : Bool × (Nat ⊕ (FieldType × Nat))} (h : kd M b = some x) : kd M b ≠ none := by rw [h]; exact fun z => by cases z
/-- what a house keeps stays where its cells stay -/
theorem Fx.ca {S : Nat → Nat → Prop} {b : Nat} (f : Fx S ρ M ρ' M') (hb : kd M b = some (true, .inl 12) ∧ ρ b = Tg b 63) (hS : ∀ k i, 10 ≤ k → k ≤ 11 → ¬ S (Tg b k) i) (hS2 : ∀ i, 10 ≤ i → i ≤ 16 → ¬ S (Tg b 63) i) (h : CaX M ρ b P) : CaX M' ρ' b P := by
  have c0 := f.2 b (live_of hb.1)
  have v0 := fun i h1 h2 => c0.2 i (by rw [hb.2]; exact hS2 i h1 h2)
  have rm : ∀ c, RmA M ρ b c → RmA M' ρ' b c := fun c h k hk => by
    obtain ⟨g1, g2, g3⟩ := h k hk
    have c1 := f.2 (c k) (live_of g2)
    exact ⟨(v0 (13 + k) (by omega) (by omega)).2.2.trans g1, c1.1.1.trans g2, c1.1.2.trans g3⟩
  have tb : ∀ p l, TbA M ρ b p l → TbA M' ρ' b p l := fun p l h => by
    obtain ⟨⟨g1, g2, g3⟩, g4, g5, g6⟩ := h
    have c1 := f.2 p (live_of g2)
    have c2 := f.2 l (live_of g5)
    exact ⟨⟨(v0 10 (by omega) (by omega)).2.2.trans g1, c1.1.1.trans g2, c1.1.2.trans g3⟩, (v0 11 (by omega) (by omega)).2.2.trans g4, c2.1.1.trans g5, c2.1.2.trans g6⟩
  obtain ⟨h1, h2, h3⟩ := h
  refine ⟨h1.imp (fun z => (v0 13 (by omega) (by omega)).2.2.trans z) (fun ⟨c, z⟩ => ⟨c, rm c z⟩), h2.imp (fun z => ⟨(v0 10 (by omega) (by omega)).2.2.trans z.1, (v0 11 (by omega) (by omega)).2.2.trans z.2⟩) (fun ⟨p, l, z⟩ => ⟨p, l, tb p l z⟩), h3.imp (fun z => (v0 12 (by omega) (by omega)).1.trans z) (fun ⟨z1, ⟨c, z2⟩, p, l, z3, z4⟩ => ⟨(v0 12 (by omega) (by omega)).1.trans z1, ⟨c, rm c z2⟩, p, l, tb p l z3, fun d hd s hs => ?_⟩)⟩
  have c1 := f.2 p (live_of z3.1.2.1)
  have c2 := f.2 l (live_of z3.2.2.1)
  exact ⟨(c1.2 _ (by rw [z3.1.2.2]; exact hS 10 _ (by omega) (by omega))).2.1.trans (z4 d hd s hs).1, (c2.2 _ (by rw [z3.2.2.2]; exact hS 11 _ (by omega) (by omega))).1.trans (z4 d hd s hs).2⟩
/-- any house stays a house by another one's work -/
theorem HX.other {b : Nat} (f : Fx (SH a) ρ M ρ' M') (hb : b ≠ a) (h : HX M ρ b P) : HX M' ρ' b P := by
  obtain ⟨⟨r, hs⟩, ca, hw⟩ := h
  exact ⟨⟨r, f.hsH hs⟩, f.ca hs.1 (fun k i h1 h2 => SH.o hb (by omega)) (fun i _ _ => SH.o hb (by omega)) ca, hw⟩
/-- one more row for a house -/
theorem x_new {S : Nat → Nat → Prop} {u v Lc Ls k N : Nat} {ty : FieldType} {i : Int32} {κ : gM → Prop} (h0 : kd M a = some (true, .inl 12) ∧ ρ a = Tg a 63) (hi : i = Int32.ofNat N) (hN : N ≤ 1000000) (hb : u + 1 ≤ Lc ∧ v + N ≤ Ls) (hS : S (Tg a 63) k) (q : ∀ M' ρ' c, Fx S ρ M ρ' M' → (kd M' a = some (true, .inl 12) ∧ ρ' a = Tg a 63) → mR M' a k = some c → kd M' c = some (true, .inr (ty, N)) → ρ' c = Tg a k → (∀ j, mI M' c j = 0 ∧ mJ M' c j = 0) → (∀ j, j ≠ k → mR M' a j = mR M a j) → (∀ j, mI M' a j = mI M a j) → κ M') : nA M u v Lc Ls ty i N fun b M2 => pR M2 12 a k (some b) κ := by
  refine ⟨⟨by rw [hi]; exact i32_lt0 (by omega), by rw [hi, i32_nat (by omega)], hN⟩, hb, fun c hq => ?_⟩
  have e : a ≠ c := fun e => by rw [← e, h0.1] at hq; cases hq
  have k0 : kd (sN M c (.inr (ty, N))) a = some (true, .inl 12) := (if_neg e).trans h0.1
  have t0 : upT ρ c (Tg a k) a = Tg a 63 := (upT_ne e).trans h0.2
  refine ⟨k0, q _ (upT ρ c (Tg a k)) c ((Fx.sN hq).tr (Fx.sR (by rw [t0]; exact hS))) ⟨k0, t0⟩ mR_eq (if_pos rfl) (upT_eq _ _ _) (fun j => ⟨if_pos rfl, if_pos rfl⟩) (fun j hj => (mR_ne (Or.inr hj)).trans (if_neg e)) (fun j => if_neg e)⟩
/-- what the finding of the best changes -/
def SF (a t i : Nat) : Prop := (t = Tg a 63 ∧ 10 ≤ i ∧ i ≤ 16) ∨ t = Tg a 10 ∨ t = Tg a 11 ∨ t = Tg a 14
theorem SF.sh {t i : Nat} (z : SF a t i) : SH a t i := by
  rcases z with z | z | z | z
  · exact Or.inl z
  · exact Or.inr ⟨10, by omega, by omega, z⟩
  · exact Or.inr ⟨11, by omega, by omega, z⟩
  · exact Or.inr ⟨14, by omega, by omega, z⟩
theorem x_makesRoom (h : HX M ρ a P) {Lc Ls : Nat} {Q : gM → Prop} (hL : mR M a 13 = none → 4 ≤ Lc ∧ 1250 ≤ Ls) (q : ∀ M' ρ' c, Fx (SF a) ρ M ρ' M' → HX M' ρ' a P → RmA M' ρ' a c → mR M' a 10 = mR M a 10 → mI M' a 12 = mI M a 12 → (mR M a 13 ≠ none → M' = M) → Q M') : F_X12_makesRoom Lc Ls M a Q := by
  obtain ⟨⟨r, hs⟩, ca, hw⟩ := h
  have sA : ∀ {i}, 10 ≤ i → i ≤ 16 → SF a (Tg a 63) i := fun h1 h2 => Or.inl ⟨rfl, h1, h2⟩
  refine gR_i hs.1.1 ⟨fun e => ?_, fun b e => ?_⟩
  · have hL := hL e
    refine x_new (k := 13) (S := SF a) hs.1 rfl (by omega) (by omega) (sA (by omega) (by omega)) (fun M1 ρ1 c1 f1 h1 r1 k1 t1 _ s1 i1 => ?_)
    refine x_new (k := 14) (S := SF a) h1 rfl (by omega) (by omega) (sA (by omega) (by omega)) (fun M2 ρ2 c2 f2 h2 r2 k2 t2 _ s2 i2 => ?_)
    refine x_new (k := 15) (S := SF a) h2 rfl (by omega) (by omega) (sA (by omega) (by omega)) (fun M3 ρ3 c3 f3 h3 r3 k3 t3 _ s3 i3 => ?_)
    refine x_new (k := 16) (S := SF a) h3 rfl (by omega) (by omega) (sA (by omega) (by omega)) (fun M4 ρ4 c4 f4 h4 r4 k4 t4 _ s4 i4 => ?_)
    have f := ((f1.tr f2).tr f3).tr f4
    have st : ∀ j, j ≠ 13 → j ≠ 14 → j ≠ 15 → j ≠ 16 → mR M4 a j = mR M a j := fun j a1 a2 a3 a4 => (s4 j a4).trans ((s3 j a3).trans ((s2 j a2).trans (s1 j a1)))
    have si : ∀ j, mI M4 a j = mI M a j := fun j => (i4 j).trans ((i3 j).trans ((i2 j).trans (i1 j)))
    have l1 := (f2.tr (f3.tr f4)).2 c1 (live_of k1)
    have l2 := (f3.tr f4).2 c2 (live_of k2)
    have l3 := f4.2 c3 (live_of k3)
    have rm : RmA M4 ρ4 a (fun k => if k = 0 then c1 else if k = 1 then c2 else if k = 2 then c3 else c4) := fun k hk => by
      rcases (by omega : k = 0 ∨ k = 1 ∨ k = 2 ∨ k = 3) with rfl | rfl | rfl | rfl
      · exact ⟨(s4 13 (by omega)).trans ((s3 13 (by omega)).trans ((s2 13 (by omega)).trans r1)), l1.1.1.trans k1, l1.1.2.trans t1⟩
      · exact ⟨(s4 14 (by omega)).trans ((s3 14 (by omega)).trans r2), l2.1.1.trans k2, l2.1.2.trans t2⟩
      · exact ⟨(s4 15 (by omega)).trans r3, l3.1.1.trans k3, l3.1.2.trans t3⟩
      · exact ⟨r4, k4, t4⟩
    refine q M4 ρ4 _ f ⟨⟨r, (f.mono (fun _ _ z => z.sh)).hsH hs⟩, ⟨Or.inr ⟨_, rm⟩, ?_, ?_⟩, hw⟩ rm (st 10 (by omega) (by omega) (by omega) (by omega)) (si 12) (fun z => absurd e z)
    · refine ca.2.1.imp (fun z => ⟨(st 10 (by omega) (by omega) (by omega) (by omega)).trans z.1, (st 11 (by omega) (by omega) (by omega) (by omega)).trans z.2⟩) (fun ⟨p, l, z⟩ => ⟨p, l, ?_⟩)
      obtain ⟨⟨g1, g2, g3⟩, g4, g5, g6⟩ := z
      have c1 := f.2 p (live_of g2)
      have c2 := f.2 l (live_of g5)
      exact ⟨⟨(st 10 (by omega) (by omega) (by omega) (by omega)).trans g1, c1.1.1.trans g2, c1.1.2.trans g3⟩, (st 11 (by omega) (by omega) (by omega) (by omega)).trans g4, c2.1.1.trans g5, c2.1.2.trans g6⟩
    · refine ca.2.2.imp (fun z => (si 12).trans z) (fun ⟨_, ⟨c, z⟩, _⟩ => ?_)
      have := (z 0 (by omega)).1
      rw [e] at this
      cases this
  · have hc := ca.1
    rw [e] at hc
    rcases hc with hc | ⟨c, hc⟩
    · cases hc
    · exact q M ρ c Fx.rf ⟨⟨r, hs⟩, ca, hw⟩ hc rfl rfl (fun _ => rfl)
end XC
