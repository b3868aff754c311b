/-! the class's operations: texts, the seed, houses altered -/
set_option maxRecDepth 100000
/-- any cell of an owner -/
def SO (a τ _i : Nat) : Prop := ∃ k, k < 64 ∧ τ = Tg a k
theorem SO.cl {a b : Nat} (h : b ≠ a) : Cl (SO a) b := fun k i hk z => by
  obtain ⟨j, hj, e⟩ := z
  exact h (Tg_inj hk hj e).1
theorem SO.n5 {a i : Nat} : ¬ SO a 500 i := fun z => by
  obtain ⟨j, hj, e⟩ := z
  have := Tg_ge a j
  omega
theorem SO.ge {a τ i : Nat} (z : SO a τ i) : 100000 ≤ τ := by
  obtain ⟨j, hj, e⟩ := z
  have := Tg_ge a j
  omega
section XOP8
variable {M : gM} {ρ : Nat → Nat} {x : Nat} {A : Ab} {G : XG}
theorem XRl.size (R : XRl M ρ x A G) {z : Nat} (hz : z ≤ aTz A) : XRl (sI M x 4 (Int32.ofNat z)) ρ x (sTp A (aTp A) z) G ∧ Ext ρ M ρ (sI M x 4 (Int32.ofNat z)) := by
  have k0 := R.1
  have f : Fx (SO x) ρ M ρ (sI M x 4 (Int32.ofNat z)) := Fx.sI ⟨63, by omega, k0.2⟩
  obtain ⟨o0, o1, ⟨tp, o2, o2', o2''⟩, o3, ⟨rf, g1, g2, g3⟩, o5⟩ := R.ow
  have nt : tp ≠ x := fun e => by rw [e, k0.1] at o2'; cases o2'.1
  have nr : rf ≠ x := fun e => by rw [e, k0.1] at g2; cases g2.1
  exact ⟨R.own f (fun b hb => SO.cl hb) (fun i => SO.n5) ⟨o0, o1, ⟨tp, o2, o2', fun i hi => ⟨(mI_ne (Or.inl nt)).trans (o2'' i (Nat.lt_of_lt_of_le hi hz)).1, (o2'' i (Nat.lt_of_lt_of_le hi hz)).2⟩⟩, ⟨mI_eq, Nat.le_trans hz o3.2⟩, ⟨rf, g1, g2, fun i h1 h2 => (mI_ne (Or.inl nr)).trans (g3 i h1 h2)⟩, o5⟩, f.ext (fun t i z => z.ge)⟩
theorem x_wipeO (R : XRl M ρ x A G) {Q : Int32 → gM → Prop} (q : Kx (spWipe A) x ρ M Q) : F_X0_wipe M x Q := by
  obtain ⟨r1, r2⟩ := R.size (z := 0) (Nat.zero_le _)
  refine gI_i R.1.1 ⟨R.1.1, ?_⟩
  rw [R.ow.2.2.2.1.1]
  exact q _ ρ G r1 r2
theorem XRl.byte (R : XRl M ρ x A G) {w : Nat} (hz : aTz A < 160) (hw : w < 256) {κ : gM → Prop} (q : ∀ N, XRl N ρ x (sTp A (fun i => if i = aTz A then w else aTp A i) (aTz A + 1)) G → Ext ρ M ρ N → κ N) : gN M 0 x 3 fun tp => gI M 0 x 4 fun z => pI M 0 x 4 (z + (1 : Int32)) fun M1 => uI M1 tp z (Int32.ofNat w) κ := by
  have k0 := R.1
  obtain ⟨o0, o1, ⟨tp, o2, o2', o2''⟩, o3, ⟨rf, g1, g2, g3⟩, o5⟩ := R.ow
  refine gN_i k0.1 o2 (gI_i k0.1 ?_)
  rw [o3.1, i32_lit 1, i32_add]
  refine ⟨k0.1, uI_i (M := sI M x 4 (Int32.ofNat (aTz A + 1))) o2'.1 hz (by omega) ?_⟩
  have nt : tp ≠ x := fun e => by rw [e, k0.1] at o2'; cases o2'.1
  have nr : rf ≠ x := fun e => by rw [e, k0.1] at g2; cases g2.1
  have ntr : rf ≠ tp := fun e => by
    have := g2.2
    rw [e, o2'.2] at this
    have := (Tg_inj (by omega) (by omega) this).2
    omega
  have f : Fx (SO x) ρ M ρ (sI (sI M x 4 (Int32.ofNat (aTz A + 1))) tp (aTz A) (Int32.ofNat w)) := (Fx.sI ⟨63, by omega, k0.2⟩).tr (Fx.sI ⟨3, by omega, o2'.2⟩)
  refine q _ (R.own f (fun b hb => SO.cl hb) (fun i => SO.n5) ⟨o0, o1, ⟨tp, o2, o2', fun i hi => ?_⟩, ⟨(mI_ne (Or.inl (fun e => nt e.symm))).trans mI_eq, by show aTz A + 1 ≤ 160; omega⟩, ⟨rf, g1, g2, fun i h1 h2 => (mI_ne (Or.inl ntr)).trans ((mI_ne (Or.inl nr)).trans (g3 i h1 h2))⟩, o5⟩) (f.ext (fun t i z => z.ge))
  have hi : i < aTz A + 1 := hi
  show mI _ tp i = Int32.ofNat (if i = aTz A then w else aTp A i) ∧ (if i = aTz A then w else aTp A i) < 256
  by_cases c : i = aTz A
  · rw [if_pos c, c]
    exact ⟨mI_eq, hw⟩
  · rw [if_neg c]
    exact ⟨(mI_ne (Or.inr c)).trans ((mI_ne (Or.inl nt)).trans (o2'' i (by omega)).1), (o2'' i (by omega)).2⟩
theorem x_feedO (R : XRl M ρ x A G) {x1 x2 : Int32} {Q : Int32 → gM → Prop} (q : Kx (spFeed A x1 x2) x ρ M Q) : F_X0_feed M x x1 x2 Q := by
  obtain ⟨z1, z2⟩ := R.ow.2.2.2.1
  refine x_in (l := 1) (n := 4) (by omega) (by omega) (fun n e1 hn => bT' n10 (gI_i R.1.1 ?_)) (fun e1 => bF' rfl (x_bad R ?_ q))
  · have d1 := dec_some e1
    have es : spFeed A x1 x2 = if 160 < aTz A + n then rj A 6 else (Int32.ofNat (aTz A + n), sTp A (fun i => if aTz A ≤ i ∧ i < aTz A + n then byF x1 (n - 1 - (i - aTz A)) else aTp A i) (aTz A + n)) := by
      unfold spFeed
      rw [e1]
      exact if_neg (by omega)
    rw [z1, d1.2.1, i32_add]
    refine leS (b := 160) (by omega) (by omega) (fun c => ?_) (fun c => x_rj (n := 6) R (by omega) (by rw [es, if_pos (by omega)]) q)
    rw [if_neg (by omega)] at es
    rw [es] at q
    have e0 : Int32.ofNat n - (1 : Int32) = Int32.ofNat (n - 0) + (-1 : Int32) := by
      obtain ⟨m, rfl⟩ : ∃ m, n = m + 1 := ⟨n - 1, by omega⟩
      rw [i32_lit 1, i32_sub (by omega)]
      exact (i32_dec m).symm
    rw [e0]
    refine loopV (fun g v N => F_X0_feed_b39 Q x x1 g v N) (fun i => Int32.ofNat (n - i) + (-1 : Int32)) (fun i N => XRl N ρ x (sTp A (fun j => if aTz A ≤ j ∧ j < aTz A + i then byF x1 (n - 1 - (j - aTz A)) else aTp A j) (aTz A + i)) G ∧ Ext ρ M ρ N) n (fun i hi g N hI k => ?_) (fun g N hI => ?_) M ⟨?_, Ext.rf⟩
    · obtain ⟨RN, ex⟩ := hI
      have e9 : Int32.ofNat (n - i) + (-1 : Int32) = Int32.ofNat (n - 1 - i) := by rw [show n - i = (n - 1 - i) + 1 by omega]; exact i32_dec _
      show F_X0_feed_b39 Q x x1 (g + 1) (Int32.ofNat (n - i) + (-1 : Int32)) N
      rw [e9]
      refine bF (i32_lt0 (by omega)) ?_
      rw [(byF_lt x1 (n - 1 - i)).1]
      refine RN.byte (show aTz A + i < 160 by omega) (byF_lt x1 _).2 (fun N' RN' ex' => ?_)
      have e11 : Int32.ofNat (n - 1 - i) = Int32.ofNat (n - (i + 1)) := by rw [show n - 1 - i = n - (i + 1) by omega]
      rw [e11]
      refine k N' ⟨?_, ex.tr ex'⟩
      have ef : (fun j => if j = aTz A + i then byF x1 (n - 1 - i) else (if aTz A ≤ j ∧ j < aTz A + i then byF x1 (n - 1 - (j - aTz A)) else aTp A j)) = (fun j => if aTz A ≤ j ∧ j < aTz A + (i + 1) then byF x1 (n - 1 - (j - aTz A)) else aTp A j) := by
        funext j
        by_cases c1 : j = aTz A + i
        · rw [if_pos c1, if_pos (by omega), show n - 1 - (j - aTz A) = n - 1 - i by omega]
        · rw [if_neg c1]
          by_cases c2 : aTz A ≤ j ∧ j < aTz A + i
          · rw [if_pos c2, if_pos (by omega)]
          · rw [if_neg c2, if_neg (by omega)]
      rw [← ef]
      exact RN'
    · obtain ⟨RN, ex⟩ := hI
      show F_X0_feed_b39 Q x x1 (g + 1) (Int32.ofNat (n - n) + (-1 : Int32)) N
      rw [Nat.sub_self]
      refine bT (by decide) (gI_i RN.1.1 ?_)
      rw [RN.ow.2.2.2.1.1]
      exact q N ρ G RN ex
    · have ef : (fun j => if aTz A ≤ j ∧ j < aTz A + 0 then byF x1 (n - 1 - (j - aTz A)) else aTp A j) = aTp A := by
        funext j
        rw [if_neg (by omega)]
      rw [ef]
      exact R
  · unfold spFeed
    cases e2 : dec 5 x2 with
    | none => rfl
    | some n => simp only; rw [if_pos (by have := e1 n e2; omega)]
theorem x_statusO (R : XRl M ρ x A G) {x1 : Int32} {Q : Int32 → gM → Prop} (q : Kx (spStatus A x1) x ρ M Q) : F_X0_status M x x1 Q := by
  obtain ⟨o0, o1, o2, o3, ⟨rf, g1, g2, g3⟩, o5, o6⟩ := R.ow
  have kx := R.2.2.2.2.2.2.2.2.1.2.1
  refine x_in (l := 12) (n := 16) (by omega) (by omega) (fun s e h1 => bF n10 ?_) (fun hno => bT rfl ?_)
  · have d := dec_some e
    have es : spStatus A x1 = (statV A s, A) := by unfold spStatus; rw [e]
    have ev : statV A s = aRf A (s - 10) := by
      rcases (by omega : s = 12 ∨ s = 13 ∨ s = 14 ∨ s = 15 ∨ s = 16) with rfl | rfl | rfl | rfl | rfl <;> rfl
    rw [d.2.1, i32_lit 10, i32_sub (by omega)]
    refine gN_i R.1.1 g1 (aI_i g2.1 (by omega) (by omega) ?_)
    rw [g3 (s - 10) (by omega) (by omega)]
    exact x_same R (by rw [es, ev]) q
  · cases e1 : dec 4 x1 with
    | some k =>
      have d1 := dec_some e1
      have es : spStatus A x1 = (statV A k, A) := by unfold spStatus; rw [d1.2.1, dec_of (by omega) (by omega)]
      rw [d1.2.1, i32_toInt (by omega), i32_lit 0, i32_lit 1, i32_lit 2, i32_lit 3, i32_eq (by omega) (by omega), i32_eq (by omega) (by omega), i32_eq (by omega) (by omega), i32_eq (by omega) (by omega)]
      rcases (by omega : k = 0 ∨ k = 1 ∨ k = 2 ∨ k = 3) with rfl | rfl | rfl | rfl
      · exact ⟨fun z => by omega, fun _ => gN_i R.1.1 o5 (gI_i kx.1.1 (by rw [kx.2.2.1.1]; exact x_same R es q)), fun z => by omega, fun z => by omega, fun z => by omega⟩
      · exact ⟨fun z => by omega, fun z => by omega, fun _ => gI_i R.1.1 (by rw [o3.1]; exact x_same R es q), fun z => by omega, fun z => by omega⟩
      · exact ⟨fun z => by omega, fun z => by omega, fun z => by omega, fun _ => gN_i R.1.1 o5 (gI_i kx.1.1 (by rw [kx.2.2.2.1]; exact x_same R es q)), fun z => by omega⟩
      · refine ⟨fun z => by omega, fun z => by omega, fun z => by omega, fun z => by omega, fun _ => R.rc ?_⟩
        refine loopC (fun g v N => F_X0_held_2_b4 (fun x_9 M_8 => Q x_9 M_8) x g v.1 v.2 N) (fun s => (Int32.ofNat (cntN A s), Int32.ofNat s)) M 8 (fun s hs g k => ?_) (fun g => ?_)
        · have hsh := R.sx hs
          refine leF (a := 8) hs (by omega) (x_shs R hs ?_)
          have go : ∀ y, y = (match aSh A s with | none => 0 | some _ => 1) → F_X0_held_2_b28 (fun x_9 M_8 => Q x_9 M_8) (F_X0_held_2_b4 (fun x_9 M_8 => Q x_9 M_8) x g) x (Int32.ofNat s) (Int32.ofNat (cntN A s)) (Int32.ofNat y) M := by
            intro y hy
            unfold F_X0_held_2_b28
            rw [i32_lit 1, i32_add, i32_add, hy]
            exact k
          cases ev : aSh A s with
          | none =>
            rw [ev] at hsh go
            have hsh : mR M (G.2.2.1 s) 0 = none := hsh.2
            rw [hsh]
            exact ⟨fun _ => go 0 rfl, fun b z => by cases z⟩
          | some w =>
            rw [ev] at hsh go
            have hsh : ∃ c, mR M (G.2.2.1 s) 0 = some c := by
              cases w with
              | inl w => exact ⟨hsh.2.choose, hsh.2.choose_spec.1⟩
              | inr w => exact ⟨hsh.2.choose, hsh.2.choose_spec.1⟩
            obtain ⟨c, hsh⟩ := hsh
            rw [hsh]
            exact ⟨(fun z => by cases z), fun b z => go 1 rfl⟩
        · exact leT (a := 8) (Nat.le_refl _) (by omega) (x_same R es q)
    | none =>
      have ne : ∀ k, k < 4 → x1 ≠ Int32.ofNat k := fun k hk => dec_none e1 hk (by omega)
      refine ⟨fun _ => x_same R ?_ q, fun z => absurd z (ne 0 (by omega)), fun z => absurd z (ne 1 (by omega)), fun z => absurd z (ne 2 (by omega)), fun z => absurd z (ne 3 (by omega))⟩
      unfold spStatus
      cases e2 : dec 17 x1 with
      | none => rfl
      | some k =>
        have d2 := dec_some e2
        have h4 : ¬ k < 4 := fun c => ne k c d2.2.1
        have h12 := hno k e2
        have ev : statV A k = -1 := by
          rcases (by omega : k = 4 ∨ k = 5 ∨ k = 6 ∨ k = 7 ∨ k = 8 ∨ k = 9 ∨ k = 10 ∨ k = 11) with rfl | rfl | rfl | rfl | rfl | rfl | rfl | rfl <;> rfl
        simp only [ev]
/-- the seed is set -/
theorem XRl.sd (R : XRl M ρ x A G) (v : Int32) : XRl (sI M G.1.1 2 v) ρ x (sNow A (sSd (aNow A) v)) G ∧ Ext ρ M ρ (sI M G.1.1 2 v) := by
  obtain ⟨k0, ⟨hs, k1, k2, k3⟩, k4, k5, k6, k7⟩ := R.2.2.2.2.2.2.2.2.1.2.1
  have kA := R.2.2.2.2.2.2.2.2.1.2.2
  have f : Fx (SO G.1.1) ρ M ρ (sI M G.1.1 2 v) := Fx.sI ⟨63, by omega, k0.2⟩
  have hh : ∀ b, HX M ρ b (G.2.2.2 b) → HX (sI M G.1.1 2 v) ρ b (G.2.2.2 b) := fun b z => z.cl f (SO.cl (ki_ne z.kd_ k0.1 (by omega)))
  refine ⟨R.now (K' := sSd (aNow A) v) (g' := G.1.2) (pA := G.2.2.2) f (fun b _ h1 _ => SO.cl h1) hh (fun b _ _ => rfl) (fun i => SO.n5) ⟨⟨k0, ⟨hs, k1, k2, k3⟩, ⟨(mI_ne (Or.inr (by omega))).trans k4.1, k4.2⟩, mI_eq, fun h hlt => ?_, ?_⟩, kA⟩ ⟨R.2.2.2.2.2.2.2.2.2.1, R.2.2.2.2.2.2.2.2.2.2.1⟩ (fun h hlt => Or.inl ⟨h, hlt, rfl⟩) (fun w ew => Or.inl ⟨w, ew, rfl⟩), f.ext (fun t i z => z.ge)⟩
  · have := hh _ (by rw [kA.1 h hlt]; exact k6 h hlt)
    rw [kA.1 h hlt] at this
    exact this
  · show match kWk (aNow A) with | none => _ | some v => _
    cases ew : kWk (aNow A) with
    | none => rw [ew] at k7; exact k7
    | some w =>
      rw [ew] at k7
      exact ⟨k7.1, k7.2.fx f (SO.cl (ki_ne k7.2.1.1 k0.1 (by omega))) (fun b u n h => h.cl f (SO.cl (h.ne2 k0.1 (by omega)))) hh (kA.2 w ew) (kA.2 w ew)⟩
theorem x_seedO (R : XRl M ρ x A G) {x1 : Int32} {Q : Int32 → gM → Prop} (q : Kx (spSeed A x1) x ρ M Q) : F_X0_seed M x x1 Q := by
  obtain ⟨k0, k1, -⟩ := R.2.2.2.2.2.2.2.2.1
  obtain ⟨r1, r2⟩ := R.sd x1
  refine gN_i R.1.1 k0 (gI_i k1.1.1 (gN_i R.1.1 k0 ⟨k1.1.1, ?_⟩))
  rw [k1.2.2.2.1]
  exact q _ ρ G r1 r2
/-- a house's numbers have changed -/
theorem XRl.alt (R : XRl M ρ x A G) {h : Nat} {P' : Nat → Nat} {M' : gM} (hh : h < aH A) (f : Fx (SO (G.1.2.1 h)) ρ M ρ M') (hx : HX M' ρ (G.1.2.1 h) P') : XRl M' ρ x (sNow A (setH (aNow A) h P')) ((G.1.1, G.1.2), G.2.1, G.2.2.1, fun b => if b = G.1.2.1 h then P' else G.2.2.2 b) ∧ Ext ρ M ρ M' := by
  obtain ⟨k0, ⟨hs, k1, k2, k3⟩, k4, k5, k6, k7⟩ := R.2.2.2.2.2.2.2.2.1.2.1
  have kA := R.2.2.2.2.2.2.2.2.1.2.2
  have d1 := R.2.2.2.2.2.2.2.2.2.1
  have d2 := R.2.2.2.2.2.2.2.2.2.2.1
  have ka := (R.hx hh).kd_
  have ho : ∀ b, HX M ρ b (G.2.2.2 b) → HX M' ρ b ((fun b => if b = G.1.2.1 h then P' else G.2.2.2 b) b) := fun b z => by
    by_cases c : b = G.1.2.1 h
    · simp only
      rw [if_pos c, c]
      exact hx
    · simp only
      rw [if_neg c]
      exact z.cl f (SO.cl c)
  have ck : Cl (SO (G.1.2.1 h)) G.1.1 := SO.cl (ki_ne k0.1 ka (by omega))
  obtain ⟨o1, o2⟩ := f.ob ck k0
  obtain ⟨a1, a2⟩ := f.arr ck (k := 0) (by omega) k2
  have hP : ∀ g, g < aH A → (fun b => if b = G.1.2.1 h then P' else G.2.2.2 b) (G.1.2.1 g) = kP (setH (aNow A) h P') g := fun g hg => by
    show (if G.1.2.1 g = G.1.2.1 h then P' else G.2.2.2 (G.1.2.1 g)) = if g = h then P' else kP (aNow A) g
    by_cases c : g = h
    · rw [if_pos c, if_pos (by rw [c])]
    · rw [if_neg c, if_neg (d1 g h hg hh c), kA.1 g hg]
  have hW : ∀ v, kWk (aNow A) = some v → (fun b => if b = G.1.2.1 h then P' else G.2.2.2 b) G.1.2.2.2 = v.1.1 := fun v ev => by
    show (if G.1.2.2.2 = G.1.2.1 h then P' else G.2.2.2 G.1.2.2.2) = _
    rw [if_neg (fun e => d2 h v hh ev e.symm), kA.2 v ev]
  refine ⟨R.now (K' := setH (aNow A) h P') (g' := G.1.2) (pA := fun b => if b = G.1.2.1 h then P' else G.2.2.2 b) f (fun b h0 _ _ => SO.cl (fun e => h0 (by rw [e]; exact ka))) ho (fun b _ h1 => if_neg (h1 h hh)) (fun i => SO.n5) ⟨⟨o1, ⟨hs, (o2 0).2.2.trans k1, a1, fun g hg => (a2 g).2.2.trans (k3 g hg)⟩, ⟨(o2 1).1.trans k4.1, k4.2⟩, (o2 2).1.trans k5, fun g hg => ?_, ?_⟩, hP, hW⟩ ⟨d1, d2⟩ (fun g hg => Or.inl ⟨g, hg, rfl⟩) (fun w ew => Or.inl ⟨w, ew, rfl⟩), f.ext (fun t i z => z.ge)⟩
  · have := ho _ (by rw [kA.1 g hg]; exact k6 g hg)
    rw [hP g hg] at this
    exact this
  · show match kWk (aNow A) with | none => _ | some v => _
    cases ew : kWk (aNow A) with
    | none => rw [ew] at k7; exact (o2 3).2.2.trans k7
    | some w =>
      rw [ew] at k7
      exact ⟨(o2 3).2.2.trans k7.1, k7.2.fx f (SO.cl (ki_ne k7.2.1.1 ka (by omega))) (fun b u n h => h.cl f (SO.cl (h.ne2 ka (by omega)))) ho (kA.2 w ew) (hW w ew)⟩
end XOP8
