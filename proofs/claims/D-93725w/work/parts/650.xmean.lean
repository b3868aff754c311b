/-! the class's houses: costs by a rule, promises -/
set_option maxRecDepth 100000
/-- rows of a house's work -/
def SB (a t _i : Nat) : Prop := ∃ k, 13 ≤ k ∧ k ≤ 16 ∧ t = Tg a k
section XMEAN
variable {S : Nat → Nat → Prop} {M M' : gM} {a b : Nat} {r ρ ρ' P c : Nat → Nat} {u : Ru} {n : Nat}
theorem SB.sh {t i : Nat} (z : SB a t i) : SH a t i := by
  obtain ⟨k, h1, h2, e⟩ := z
  exact Or.inr ⟨k, by omega, h2, e⟩
theorem HX.sb (f : Fx (SB a) ρ M ρ' M') (h : HX M ρ a P) : HX M' ρ' a P := by
  obtain ⟨⟨r, hs⟩, ca, hw⟩ := h
  refine ⟨⟨r, (f.mono (fun _ _ z => z.sh)).hsH hs⟩, f.ca hs.1 (fun k i h1 h2 => ?_) (fun i _ _ => ?_) ca, hw⟩
  · rintro ⟨j, g1, g2, e⟩
    have := (Tg_inj (by omega) (by omega) e).2
    omega
  · rintro ⟨j, g1, g2, e⟩
    have := (Tg_inj (by omega) (by omega) e).2
    omega
theorem RmA.fx (f : Fx S ρ M ρ' M') (hk : ∀ k, 13 ≤ k → k ≤ 16 → mR M' a k = mR M a k) (h : RmA M ρ a c) : RmA M' ρ' a c := fun k hk' => by
  obtain ⟨g1, g2, g3⟩ := h k hk'
  have c1 := f.2 (c k) (live_of g2)
  exact ⟨(hk _ (by omega) (by omega)).trans g1, c1.1.1.trans g2, c1.1.2.trans g3⟩
theorem RuX.fx (f : Fx S ρ M ρ' M') (hS : ∀ k i, (k = 63 ∨ k = 0 ∨ k = 1) → ¬ S (Tg b k) i) (h : RuX M ρ b u n) : RuX M' ρ' b u n := by
  obtain ⟨hT, hr⟩ := h
  have ob : ∀ {ci : Nat}, kd M b = some (true, .inl ci) → (kd M' b = some (true, .inl ci) ∧ ρ' b = Tg b 63) ∧ ∀ i, mI M' b i = mI M b i ∧ mR M' b i = mR M b i := fun hk => by
    have c0 := f.2 b (live_of hk)
    have v := fun i => c0.2 i (by rw [hT]; exact hS 63 i (by omega))
    exact ⟨⟨c0.1.1.trans hk, c0.1.2.trans hT⟩, fun i => ⟨(v i).1, (v i).2.2⟩⟩
  unfold RuX
  split at hr
  · obtain ⟨⟨o1, o2⟩, o3⟩ := ob hr.1
    exact ⟨o2, o1, (o3 0).1.trans hr.2⟩
  · obtain ⟨⟨o1, o2⟩, o3⟩ := ob hr.1
    exact ⟨o2, o1, (o3 0).1.trans hr.2⟩
  · obtain ⟨g1, g2, d, g3, g4, g5⟩ := hr
    obtain ⟨⟨o1, o2⟩, o3⟩ := ob g1
    have c1 := f.2 d (live_of g4.1)
    exact ⟨o2, o1, (o3 0).1.trans g2, d, (o3 1).2.trans g3, ⟨c1.1.1.trans g4.1, c1.1.2.trans g4.2⟩, (c1.2 0 (by rw [g4.2]; exact hS 1 0 (by omega))).1.trans g5⟩
  · obtain ⟨⟨o1, o2⟩, o3⟩ := ob hr
    exact ⟨o2, o1⟩
  · obtain ⟨g1, g2, d, so, ff, g3, g4, g5, g6⟩ := hr
    obtain ⟨⟨o1, o2⟩, o3⟩ := ob g1
    have c1 := f.2 d (live_of g5.1)
    have v1 := fun i => c1.2 i (by rw [g4]; exact hS 0 i (by omega))
    refine ⟨o2, o1, (o3 1).1.trans g2, d, so, ff, (o3 0).2.trans g3, c1.1.2.trans g4, ⟨c1.1.1.trans g5.1, g5.2.1, fun i hi => ?_⟩, g6⟩
    rw [(v1 i).1, (v1 i).2.1]
    exact g5.2.2 i hi
theorem RuX.kind_ (h : RuX M ρ b u n) : ∃ ci, kd M b = some (true, .inl ci) ∧ ci ≠ 12 := by
  obtain ⟨-, hr⟩ := h
  split at hr
  · exact ⟨6, hr.1, by omega⟩
  · exact ⟨7, hr.1, by omega⟩
  · exact ⟨8, hr.1, by omega⟩
  · exact ⟨9, hr, by omega⟩
  · exact ⟨10, hr.1, by omega⟩
theorem RuX.ne (h : RuX M ρ b u n) (ha : kd M a = some (true, .inl 12)) : b ≠ a := fun e => by
  obtain ⟨ci, h1, h2⟩ := h.kind_
  rw [e, ha] at h1
  cases h1
  exact h2 rfl
theorem RuX.sh (f : Fx (SH a) ρ M ρ' M') (ha : kd M a = some (true, .inl 12)) (h : RuX M ρ b u n) : RuX M' ρ' b u n := h.fx f (fun k i hk => SH.o (h.ne ha) (by omega))
/-- what a rule still wants of cells and slots -/
def wC (u : Ru) (M : gM) (a : Nat) : Nat := if u.1 = 4 then ndC M a else 0
def wS (u : Ru) (M : gM) (a : Nat) : Nat := if u.1 = 4 then ndS M a else 0
def rC (M : gM) (a : Nat) : Nat := if mR M a 13 = none then 4 else 0
def rS (M : gM) (a : Nat) : Nat := if mR M a 13 = none then 1250 else 0
theorem w_mono {M1 : gM} (h : ndC M1 a ≤ ndC M a ∧ ndS M1 a ≤ ndS M a) : wC u M1 a ≤ wC u M a ∧ wS u M1 a ≤ wS u M a := by
  unfold wC wS
  by_cases e : u.1 = 4
  · rw [if_pos e, if_pos e, if_pos e, if_pos e]; exact h
  · rw [if_neg e, if_neg e, if_neg e, if_neg e]; exact ⟨Nat.le_refl _, Nat.le_refl _⟩
/-- all that stays while a rule is tried -/
def Jx (M : gM) (ρ : Nat → Nat) (a b : Nat) (P : Nat → Nat) (u : Ru) (n Lc Ls : Nat) (c : Nat → Nat) (x y : Nat) (N : gM) (ρN : Nat → Nat) : Prop := Fx (SH a) ρ M ρN N ∧ HX N ρN a P ∧ CsA N ρN ∧ RuX N ρN b u n ∧ RmA N ρN a c ∧ x + wC u N a ≤ Lc ∧ y + wS u N a ≤ Ls
theorem Jx.load {Lc Ls x y d s : Nat} {Q : Int32 → Nat → Nat → gM → Prop} {N : gM} {ρN : Nat → Nat} (J : Jx M ρ a b P u n Lc Ls c x y N ρN) (hwu : WfR u) (hd : d ≤ P 0) (hs5 : s < 5 ^ P 4) (q : ∀ N' ρ' x' y', Jx M ρ a b P u n Lc Ls c x' y' N' ρ' → Fx (SF a) ρN N ρ' N' → (ndC N' a ≤ ndC N a ∧ ndS N' a ≤ ndS N a) → Q (Int32.ofNat (ldF P u d s)) x' y' N') : ∃ c_5 s_6, (x + c_5 ≤ Lc ∧ y + s_6 ≤ Ls) ∧ FD_Chooser_load c_5 s_6 N b a (Int32.ofNat s) (Int32.ofNat d) (fun v N' => Q v (x + c_5) (y + s_6) N') := by
  obtain ⟨j1, j2, j3, j4, j5, j6, j7⟩ := J
  refine ⟨wC u N a, wS u N a, ⟨j6, j7⟩, x_load j2 j3 j4 hwu (fun e => by unfold wC wS; rw [if_pos e, if_pos e]; omega) hd hs5 (fun N' ρ' f h' ne nd kp => q N' ρ' _ _ ⟨?_, h', ?_, ?_, ?_, ?_, ?_⟩ f ?_)⟩
  · exact j1.tr (f.mono (fun _ _ z => z.sh))
  · exact (f.mono (fun _ _ z => z.sh)).csH j3
  · obtain ⟨⟨r, hs⟩, -, -⟩ := j2
    exact j4.sh (f.mono (fun _ _ z => z.sh)) hs.1.1
  · have e13 := (j5 0 (by omega)).1
    exact j5.fx f (kp (by rw [e13]; exact fun z => by cases z))
  · have eC : wC u N' a = 0 := by
      unfold wC
      by_cases e : u.1 = 4
      · rw [if_pos e]; exact (nd e).1
      · rw [if_neg e]
    rw [eC]
    exact j6
  · have eS : wS u N' a = 0 := by
      unfold wS
      by_cases e : u.1 = 4
      · rw [if_pos e]; exact (nd e).2
      · rw [if_neg e]
    rw [eS]
    exact j7
  · by_cases e : u.1 = 4
    · have := nd e
      omega
    · rw [(ne e).1]
      omega
/-- a row of its work is written -/
theorem Jx.w {Lc Ls x y k i : Nat} {v : Int64} {N : gM} {ρN : Nat → Nat} (J : Jx M ρ a b P u n Lc Ls c x y N ρN) (hk : k < 4) : Jx M ρ a b P u n Lc Ls c x y (sJ N (c k) i v) ρN := by
  obtain ⟨j1, j2, j3, j4, j5, j6, j7⟩ := J
  have T := (j5 k hk).2.2
  have f : Fx (SB a) ρN N ρN (sJ N (c k) i v) := Fx.sJ (by rw [T]; exact ⟨13 + k, by omega, by omega, rfl⟩)
  have fH := f.mono (fun _ _ z => z.sh)
  obtain ⟨⟨r, hs⟩, -, -⟩ := id j2
  exact ⟨j1.tr fH, j2.sb f, fH.csH j3, j4.sh fH hs.1.1, j5.fx f (fun _ _ _ => rfl), j6, j7⟩
theorem Jx.on {Lc Ls x y k : Nat} {N N' : gM} {ρN : Nat → Nat} (J : Jx M ρ a b P u n Lc Ls c x y N ρN) (hk : k < 4) (f : Onl (c k) N N') : Jx M ρ a b P u n Lc Ls c x y N' ρN := by
  obtain ⟨j1, j2, j3, j4, j5, j6, j7⟩ := J
  have T := (j5 k hk).2.2
  have f0 : FmG (fun z _ => z = c k) N N' := ⟨⟨f.1.1, f.1.2.1, f.1.2.2.1⟩, fun z i hz => ⟨by rw [f.1.2.2.2], f.2 z i hz⟩⟩
  have f : Fx (SB a) ρN N ρN N' := f0.fx (fun z i e => by rw [e, T]; exact ⟨13 + k, by omega, by omega, rfl⟩)
  have fH := f.mono (fun _ _ z => z.sh)
  obtain ⟨⟨r, hs⟩, -, -⟩ := id j2
  have e : wC u N' a = wC u N a ∧ wS u N' a = wS u N a := by unfold wC wS ndC ndS; rw [f0.1.2.1]; exact ⟨rfl, rfl⟩
  exact ⟨j1.tr fH, j2.sb f, fH.csH j3, j4.sh fH hs.1.1, j5.fx f (fun _ _ _ => by rw [f0.1.2.1]), by rw [e.1]; exact j6, by rw [e.2]; exact j7⟩
theorem MT_s (P : Nat → Nat) (u : Ru) (d s : Nat) : MT P u (d + 1) s = wlF P (d + 1) s (ldF P u (d + 1) s) (MT P u d) := rfl
theorem wlF_congr {d s l : Nat} {f g : Nat → Int64} (hk : P 4 ≤ 3) (hs : s < 5 ^ P 4) (h : ∀ t, t < 5 ^ P 4 → f t = g t) : wlF P d s l f = wlF P d s l g := by
  unfold wlF
  rw [bh_congr hk hs h, bh_congr (s := s - l) hk (by omega) h]
theorem x_mean (h : HX M ρ a P) (C : CsA M ρ) (hr : RuX M ρ b u n) (hwu : WfR u) {Lc Ls d s : Nat} {Q : Int64 → gM → Prop} (hL : rC M a + wC u M a ≤ Lc ∧ rS M a + wS u M a ≤ Ls) (hd : d ≤ P 0) (hs5 : s < 5 ^ P 4) (q : ∀ M' ρ', Fx (SH a) ρ M ρ' M' → HX M' ρ' a P → mR M' a 13 ≠ none → ndC M' a ≤ ndC M a ∧ ndS M' a ≤ ndS M a → Q (MT P u d s) M') : F_X12_mean Lc Ls M a b (Int32.ofNat d) (Int32.ofNat s) Q := by
  obtain ⟨⟨r, hs⟩, ca, hw⟩ := id h
  have hk := hw.2.2.2.2.1
  have h5 := p5_le hk.2
  have hd0 := hw.1
  refine ⟨rC M a, rS M a, ⟨by omega, by omega⟩, x_rc hs (x_makesRoom h (fun e => by unfold rC rS; rw [if_pos e, if_pos e]; omega) (fun M1 ρ1 c f1 h1 rm e10 e12 same => ?_))⟩
  obtain ⟨⟨r1, hs1⟩, ca1, -⟩ := id h1
  have f1H := f1.mono (fun _ _ z => z.sh)
  have e13 : ∀ {N : gM} {ρN : Nat → Nat}, RmA N ρN a c → mR N a 13 ≠ none := fun z => by rw [(z 0 (by omega)).1]; exact fun z => by cases z
  have nd1 : ndC M1 a ≤ ndC M a ∧ ndS M1 a ≤ ndS M a := by
    unfold ndC ndS
    rw [if_neg (e13 rm), if_neg (e13 rm), e10]
    constructor <;> omega
  have J1 : Jx M ρ a b P u n Lc Ls c (0 + rC M a) (0 + rS M a) M1 ρ1 := ⟨f1H, h1, f1H.csH C, hr.sh f1H hs.1.1, rm, by have := (w_mono (u := u) nd1).1; omega, by have := (w_mono (u := u) nd1).2; omega⟩
  refine gN_i hs1.1.1 (rm 0 (by omega)).1 ?_
  refine loopR (fun g (v : Int32 × Nat × Nat) N => F_X12_mean_b13 Q Lc Ls a b (Int32.ofNat d) (Int32.ofNat s) (c 0) g v.1 v.2.1 v.2.2 N) (fun i v N => ∃ ρN, v.1 = Int32.ofNat i ∧ Jx M ρ a b P u n Lc Ls c v.2.1 v.2.2 N ρN ∧ (ndC N a ≤ ndC M a ∧ ndS N a ≤ ndS M a) ∧ ∀ t, t < i → mJ N (c 0) t = MT P u 0 t) (5 ^ P 4) (fun i hi g v N hI k => ?_) (fun g v N hI => ?_) ((0 : Int32), _, _) M1 ⟨ρ1, rfl, J1, nd1, fun t ht => absurd ht (Nat.not_lt_zero _)⟩
  · obtain ⟨vi, x, y⟩ := v
    obtain ⟨ρN, e, J, m10, w⟩ := hI
    simp only at e J
    subst e
    obtain ⟨⟨rN, hsN⟩, -, -⟩ := id J.2.1
    have hm := sm4_le hw i
    have k0 : kd N (c 0) = some (true, .inr (.long, 875)) := (J.2.2.2.2.1 0 (by omega)).2.1
    refine x_rc hsN (x_states hsN hk (leF hi (by omega) (x_rc hsN (x_leaving hsN J.2.2.1 hk.2 (by omega) (uJ_i k0 (by omega) (by omega) ?_)))))
    rw [i32_lit 1, i32_add, i64_of (by omega)]
    refine k (_, _, _) _ ⟨ρN, rfl, J.w (by omega), m10, fun t ht => ?_⟩
    by_cases e : t = i
    · rw [e]; exact mJ_eq
    · exact (mJ_ne (Or.inr e)).trans (w t (by omega))
  · obtain ⟨vi, x, y⟩ := v
    obtain ⟨ρN, e, J, m10, w⟩ := hI
    simp only at e J
    subst e
    obtain ⟨⟨rN, hsN⟩, -, -⟩ := id J.2.1
    refine x_rc hsN (x_states hsN hk (leT (Nat.le_refl _) (by omega) ?_))
    refine loopR (fun g (v : Int32 × Nat × Nat) N => F_X12_mean_b43 Q Lc Ls a b (Int32.ofNat d) (Int32.ofNat s) (c 0) g v.1 v.2.1 v.2.2 N) (fun i v N => ∃ ρN, v.1 = Int32.ofNat (i + 1) ∧ Jx M ρ a b P u n Lc Ls c v.2.1 v.2.2 N ρN ∧ (ndC N a ≤ ndC M a ∧ ndS N a ≤ ndS M a) ∧ ∀ k, k < i + 1 → ∀ t, t < 5 ^ P 4 → mJ N (c 0) (125 * k + t) = MT P u k t) d (fun i hi g v N hI k => ?_) (fun g v N hI => ?_) ((1 : Int32), x, y) N ⟨ρN, rfl, J, m10, fun k hk' t ht => by rw [show k = 0 by omega, Nat.mul_zero, Nat.zero_add]; exact w t ht⟩
    · obtain ⟨vi, x, y⟩ := v
      obtain ⟨ρN, e, J, nd, w⟩ := hI
      simp only at e J
      subst e
      show F_X12_mean_b43 Q Lc Ls a b (Int32.ofNat d) (Int32.ofNat s) (c 0) (g + 1) (Int32.ofNat (i + 1)) x y N
      refine ltF (by omega) (by omega) ?_
      refine loopR (fun g' (v : Int32 × Nat × Nat) N => F_X12_mean_b52 Q Lc Ls (F_X12_mean_b43 Q Lc Ls a b (Int32.ofNat d) (Int32.ofNat s) (c 0) g) a b (Int32.ofNat d) (Int32.ofNat s) (c 0) (Int32.ofNat (i + 1)) g' v.1 v.2.1 v.2.2 N) (fun j v N => ∃ ρN, v.1 = Int32.ofNat j ∧ Jx M ρ a b P u n Lc Ls c v.2.1 v.2.2 N ρN ∧ (ndC N a ≤ ndC M a ∧ ndS N a ≤ ndS M a) ∧ (∀ k, k < i + 1 → ∀ t, t < 5 ^ P 4 → mJ N (c 0) (125 * k + t) = MT P u k t) ∧ ∀ t, t < j → mJ N (c 0) (125 * (i + 1) + t) = MT P u (i + 1) t) (5 ^ P 4) (fun j hj g' v N hI k' => ?_) (fun g' v N hI => ?_) ((0 : Int32), x, y) N ⟨ρN, rfl, J, nd, w, fun t ht => absurd ht (Nat.not_lt_zero _)⟩
      · obtain ⟨vi, x, y⟩ := v
        obtain ⟨ρN, e, J, nd, w, w2⟩ := hI
        simp only at e J
        subst e
        obtain ⟨⟨rN, hsN⟩, -, -⟩ := id J.2.1
        have hle := ldF_le hw (u := u) (d := i + 1) (s := j) (by omega)
        refine x_rc hsN (x_states hsN hk (leF hj (by omega) (J.load (Q := fun v x' y' N' => rc N' 12 a ∧ F_X12_sending N' a (Int32.ofNat j) v (Int32.ofNat (i + 1)) (c 0) fun j_8 M_7 => uJ M_7 (c 0) (((125 : Int32) * Int32.ofNat (i + 1)) + Int32.ofNat j) j_8 fun M_9 => (F_X12_mean_b52 Q Lc Ls (F_X12_mean_b43 Q Lc Ls a b (Int32.ofNat d) (Int32.ofNat s) (c 0) g) a b (Int32.ofNat d) (Int32.ofNat s) (c 0) (Int32.ofNat (i + 1)) g') (Int32.ofNat j + (1 : Int32)) x' y' M_9) hwu (by omega) hj (fun N' ρ' x' y' J' f' nd' => ?_))))
        obtain ⟨⟨rN', hsN'⟩, -, -⟩ := id J'.2.1
        have T0 := (J.2.2.2.2.1 0 (by omega)).2.2
        have k0 : kd N (c 0) = some (true, .inr (.long, 875)) := (J.2.2.2.2.1 0 (by omega)).2.1
        have k0' : kd N' (c 0) = some (true, .inr (.long, 875)) := (J'.2.2.2.2.1 0 (by omega)).2.1
        have same : ∀ i, mJ N' (c 0) i = mJ N (c 0) i := fun i => ((f'.2 (c 0) (live_of k0)).2 i (by
          rw [T0]
          rintro (⟨e, -⟩ | e | e | e)
          · have := (Tg_inj (by omega) (by omega) e).2; omega
          · have := (Tg_inj (by omega) (by omega) e).2; omega
          · have := (Tg_inj (by omega) (by omega) e).2; omega
          · have := (Tg_inj (by omega) (by omega) e).2; omega)).2.1
        refine x_rc hsN' (x_sending hsN' J'.2.2.1 hw ⟨by omega, by omega⟩ hj hle k0' ?_)
        rw [wlF_congr (g := MT P u i) hk.2 hj (fun t ht => by rw [Nat.add_sub_cancel, same]; exact w i (by omega) t ht), ← MT_s, i32_lit 125, i32_mul, i32_add]
        refine uJ_i k0' (by omega) (by omega) ?_
        rw [i32_lit 1, i32_add]
        refine k' (_, _, _) _ ⟨ρ', rfl, J'.w (by omega), ⟨Nat.le_trans nd'.1 nd.1, Nat.le_trans nd'.2 nd.2⟩, fun k hk' t ht => ?_, fun t ht => ?_⟩
        · rw [mJ_ne (Or.inr (by omega)), same]
          exact w k hk' t ht
        · by_cases e : t = j
          · rw [e]; exact mJ_eq
          · rw [mJ_ne (Or.inr (by omega)), same]
            exact w2 t (by omega)
      · obtain ⟨vi, x, y⟩ := v
        obtain ⟨ρN, e, J, nd, w, w2⟩ := hI
        simp only at e J
        subst e
        obtain ⟨⟨rN, hsN⟩, -, -⟩ := id J.2.1
        refine x_rc hsN (x_states hsN hk (leT (Nat.le_refl _) (by omega) ?_))
        rw [i32_lit 1, i32_add]
        refine k (_, _, _) N ⟨ρN, rfl, J, nd, fun k hk' t ht => ?_⟩
        by_cases e : k = i + 1
        · rw [e]; exact w2 t ht
        · exact w k (by omega) t ht
    · obtain ⟨vi, x, y⟩ := v
      obtain ⟨ρN, e, J, nd, w⟩ := hI
      simp only at e J
      subst e
      have k0 : kd N (c 0) = some (true, .inr (.long, 875)) := (J.2.2.2.2.1 0 (by omega)).2.1
      refine ltT (by omega) (by omega) ?_
      rw [i32_lit 125, i32_mul, i32_add]
      refine aJ_i k0 (by omega) (by omega) ?_
      rw [w d (by omega) s hs5]
      exact q N ρN J.1 J.2.1 (e13 J.2.2.2.2.1) nd
end XMEAN
