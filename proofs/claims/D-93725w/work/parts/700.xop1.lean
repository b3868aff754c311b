/-! the class's operations that ask -/
set_option maxRecDepth 100000
section XOP1
variable {M : gM} {ρ : Nat → Nat} {x : Nat} {A : Ab} {G : XG}
theorem HX.rch {a : Nat} {P : Nat → Nat} (h : HX M ρ a P) {B : Prop} (q : B) : rc M 12 a ∧ B := rc_i h.kd_ q
theorem HX.gi {a k : Nat} {P : Nat → Nat} (h : HX M ρ a P) {κ : Int32 → Prop} (hk : k < 5) (q : κ (Int32.ofNat (P k))) : gI M 12 a k κ := by
  obtain ⟨⟨r, hs⟩, -⟩ := h
  exact x_gI hs hk q
theorem SF.ge {a t i : Nat} (z : SF a t i) : 100000 ≤ t := z.sh.ge
theorem Fx.sf {a : Nat} {M' : gM} {ρ' : Nat → Nat} (f : Fx (SF a) ρ M ρ' M') : Fx (SH a) ρ M ρ' M' := f.mono (fun t i z => z.sh)
/-- a switch over a few numbers -/
theorem sw_out {n : Nat} {y : Int32} (h : dec n y = none) (hn : 1 ≤ n ∧ n < 2147483648) : (y.toInt < 0 ∨ ((n - 1 : Nat) : Int) < y.toInt) ∧ ∀ k, k < n → y ≠ Int32.ofNat k := by
  refine ⟨?_, fun k hk => dec_none h hk (by omega)⟩
  unfold dec at h
  split at h
  · cases h
  · omega
theorem x_houseOf (R : XRl M ρ x A G) {x1 x2 : Int32} {Q : Int32 → gM → Prop} (q : Kx (spHouseOf A x1 x2) x ρ M Q) : F_X0_houseOf M x x1 x2 Q := by
  refine R.rc (x_gH R (fun h e1 => bT' n10 ?_) (fun e1 => bF' rfl (x_bad R (by unfold spHouseOf; rw [e1]) q)))
  have d1 := dec_some e1
  have hx := R.hx d1.1
  rw [d1.2.1]
  refine x_hs R d1.1 ?_
  cases e2 : dec 5 x2 with
  | none =>
    obtain ⟨z1, z2⟩ := sw_out e2 (by omega)
    exact ⟨fun _ => x_bad R (by unfold spHouseOf; rw [e1, e2]) q, fun z => absurd z (z2 0 (by omega)), fun z => absurd z (z2 1 (by omega)), fun z => absurd z (z2 2 (by omega)), fun z => absurd z (z2 3 (by omega)), fun z => absurd z (z2 4 (by omega))⟩
  | some w =>
    have d2 := dec_some e2
    have es : spHouseOf A x1 x2 = (Int32.ofNat (aP A h w), A) := by unfold spHouseOf; rw [e1, e2]
    have nz : ∀ k, k < 5 → x2 = Int32.ofNat k → w = k := fun k hk z => by
      rw [d2.2.1, i32_eq (by omega) (by omega)] at z
      exact z
    refine ⟨fun z => ?_, fun z => ?_, fun z => ?_, fun z => ?_, fun z => ?_, fun z => ?_⟩
    · rw [d2.2.1, i32_toInt (by omega)] at z
      omega
    · exact hx.gi (by omega) (x_same R (by rw [es, nz 0 (by omega) z]) q)
    · exact hx.gi (by omega) (x_same R (by rw [es, nz 1 (by omega) z]) q)
    · exact hx.gi (by omega) (x_same R (by rw [es, nz 2 (by omega) z]) q)
    · exact hx.gi (by omega) (x_same R (by rw [es, nz 3 (by omega) z]) q)
    · exact hx.gi (by omega) (x_same R (by rw [es, nz 4 (by omega) z]) q)
theorem x_sortOf2 (R : XRl M ρ x A G) {x1 x2 x3 : Int32} {Q : Int32 → gM → Prop} (q : Kx (spSortOf A x1 x2 x3) x ρ M Q) : F_X0_sortOf_2 M x x1 x2 x3 Q := by
  refine R.rc (x_gT R (fun h i e1 e2 => bT' n10 ?_) (fun e1 => bF' rfl (x_bad R (by unfold spSortOf; rw [e1]) q)) (fun h e1 e2 => bF' rfl (x_bad R (by unfold spSortOf; rw [e1]; simp only; rw [e2]) q)))
  have d1 := dec_some e1
  have d0 := dec_some e2
  obtain ⟨⟨r, hs⟩, -, hw⟩ := R.hx d1.1
  have h4 := hw.2.2.2.2.1.2
  rw [d1.2.1, d0.2.1]
  refine x_hs R d1.1 ?_
  cases e3 : dec 5 x3 with
  | none =>
    obtain ⟨z1, z2⟩ := sw_out e3 (by omega)
    exact ⟨fun _ => x_bad R (by unfold spSortOf; rw [e1]; simp only; rw [e2, e3]) q, fun z => absurd z (z2 0 (by omega)), fun z => absurd z (z2 1 (by omega)), fun z => absurd z (z2 2 (by omega)), fun z => absurd z (z2 3 (by omega)), fun z => absurd z (z2 4 (by omega))⟩
  | some w =>
    have d2 := dec_some e3
    have es : spSortOf A x1 x2 x3 = (Int32.ofNat (aP A h (5 + 5 * i + w)), A) := by unfold spSortOf; rw [e1]; simp only; rw [e2, e3]
    have nz : ∀ k, k < 5 → x3 = Int32.ofNat k → w = k := fun k hk z => by
      rw [d2.2.1, i32_eq (by omega) (by omega)] at z
      exact z
    refine ⟨fun z => ?_, fun z => ?_, fun z => ?_, fun z => ?_, fun z => ?_, fun z => ?_⟩
    · rw [d2.2.1, i32_toInt (by omega)] at z
      omega
    · exact x_row (w := 0) hs rfl (by omega) h4 d0.1 (x_same R (by rw [es, nz 0 (by omega) z]) q)
    · exact x_row (w := 1) hs rfl (by omega) h4 d0.1 (x_same R (by rw [es, nz 1 (by omega) z]) q)
    · exact x_row (w := 2) hs rfl (by omega) h4 d0.1 (x_same R (by rw [es, nz 2 (by omega) z]) q)
    · exact x_row (w := 3) hs rfl (by omega) h4 d0.1 (x_same R (by rw [es, nz 3 (by omega) z]) q)
    · exact x_row (w := 4) hs rfl (by omega) h4 d0.1 (x_same R (by rw [es, nz 4 (by omega) z]) q)
theorem x_of (R : XRl M ρ x A G) {x1 x2 : Int32} {Q : Int32 → gM → Prop} (q : Kx (spOf A x1 x2) x ρ M Q) : F_X0_of M x x1 x2 Q := by
  refine x_inD (n := 124) (by omega) (fun s e1 => bF n10 ?_) (fun e1 => bT rfl (x_bad R (by unfold spOf; rw [e1]) q))
  refine x_inD (n := 2) (by omega) (fun i e2 => bF n10 ?_) (fun e2 => bT rfl (x_bad R (by unfold spOf; rw [e1, e2]) q))
  have d1 := dec_some e1
  have d2 := dec_some e2
  rw [d1.2.1, d2.2.1]
  exact x_standing R.cs (by omega) d2.1 (x_same R (by unfold spOf; rw [e1, e2]) q)
theorem x_spaceO (R : XRl M ρ x A G) {x1 x2 : Int32} {Q : Int32 → gM → Prop} (q : Kx (spSpace A x1 x2) x ρ M Q) : F_X0_space M x x1 x2 Q := by
  refine R.rc (x_gS R (fun h s e => bF n10 ?_) (fun e => bT rfl (x_bad R (by unfold spSpace; rw [e]) q)))
  obtain ⟨s1, s2, s3, s4, s5, hx⟩ := R.fS e
  obtain ⟨⟨r, hs⟩, -, hw⟩ := hx
  rw [s1, s3]
  exact x_hs R s2 (x_rc hs (x_space hs R.cs hw.2.2.2.2.1.2 (by omega) (x_same R (by unfold spSpace; rw [e]) q)))
theorem x_fillO (R : XRl M ρ x A G) {x1 x2 : Int32} {Q : Int32 → gM → Prop} (q : Kx (spFill A x1 x2) x ρ M Q) : F_X0_fill M x x1 x2 Q := by
  refine R.rc (x_gS R (fun h s e => bF n10 ?_) (fun e => bT rfl (x_bad R (by unfold spFill; rw [e]) q)))
  obtain ⟨s1, s2, s3, s4, s5, hx⟩ := R.fS e
  obtain ⟨⟨r, hs⟩, -, hw⟩ := hx
  rw [s1, s3]
  exact x_hs R s2 (x_rc hs (x_fill hs R.cs hw (by omega) (x_same R (by unfold spFill; rw [e]) q)))
theorem x_scaleO (R : XRl M ρ x A G) {x1 x2 : Int32} {Q : Int64 → gM → Prop} (q : Kx (spScale A x1 x2) x ρ M Q) : F_X0_scale M x x1 x2 Q := by
  refine R.rc (x_gL (l := 0) R (by omega) (fun h d e => bF n10 ?_) (fun e => bT rfl (x_badJ R (by unfold spScale; rw [e]) q)))
  obtain ⟨l1, l2, l3, l4, l5, l6, hx⟩ := R.fL e
  obtain ⟨⟨r, hs⟩, -, hw⟩ := hx
  rw [l1, l3]
  exact x_hs R l2 (x_rc hs (x_scale hs hw.2.2.2.2.1.2 (by omega) (x_same R (by unfold spScale; rw [e]) q)))
theorem x_costO (R : XRl M ρ x A G) {x1 x2 x3 : Int32} {Lc Ls : Nat} {Q : Int64 → gM → Prop} (hL : 6 ≤ Lc ∧ 3000 ≤ Ls) (q : Kx (spCost A x1 x2 x3) x ρ M Q) : F_X0_cost Lc Ls M x x1 x2 x3 Q := by
  refine R.rc (x_gL (l := 0) R (by omega) (fun h d e1 => bF n10 (R.rc (x_gS R (fun h' s e2 => bF n10 ?_) (fun e2 => bT rfl (x_badJ R (by unfold spCost; rw [gLS_S e2]) q))))) (fun e1 => bT rfl (x_badJ R (by unfold spCost; rw [gLS_L e1]) q)))
  obtain ⟨g1, rfl⟩ := gLS_ok e1 e2
  obtain ⟨l1, l2, l3, l4, l5, l6, hx⟩ := R.fL e1
  obtain ⟨-, -, s3, s4, -, -⟩ := R.fS e2
  have nd := nd_le M (G.1.2.1 h')
  rw [l1, l3, s3]
  exact x_hs R l2 ⟨6, 3000, ⟨by omega, by omega⟩, hx.rch (x_cost hx R.cs nd l4 s4 (fun M' ρ' f hx' _ _ => x_fin R l2 f.sf hx' (by unfold spCost; rw [g1]) q))⟩
theorem x_bestO (R : XRl M ρ x A G) {x1 x2 x3 : Int32} {Lc Ls : Nat} {Q : Int32 → gM → Prop} (hL : 6 ≤ Lc ∧ 3000 ≤ Ls) (q : Kx (spBest A x1 x2 x3) x ρ M Q) : F_X0_best Lc Ls M x x1 x2 x3 Q := by
  refine R.rc (x_gL (l := 1) R (by omega) (fun h d e1 => bF n10 (R.rc (x_gS R (fun h' s e2 => bF n10 ?_) (fun e2 => bT rfl (x_bad R (by unfold spBest; rw [gLS_S e2]) q))))) (fun e1 => bT rfl (x_bad R (by unfold spBest; rw [gLS_L e1]) q)))
  obtain ⟨g1, rfl⟩ := gLS_ok e1 e2
  obtain ⟨l1, l2, l3, l4, l5, l6, hx⟩ := R.fL e1
  obtain ⟨-, -, s3, s4, -, -⟩ := R.fS e2
  have nd := nd_le M (G.1.2.1 h')
  rw [l1, l3, s3]
  exact x_hs R l2 ⟨6, 3000, ⟨by omega, by omega⟩, hx.rch (x_best hx R.cs nd l4 s4 (fun M' ρ' f hx' _ _ => x_fin R l2 f.sf hx' (by unfold spBest; rw [g1]) q))⟩
theorem x_loadO (R : XRl M ρ x A G) {x1 x2 x3 x4 : Int32} {Lc Ls : Nat} {Q : Int32 → gM → Prop} (hL : 10 ≤ Lc ∧ 4017 ≤ Ls) (q : Kx (spLoad A x1 x2 x3 x4) x ρ M Q) : F_X0_load Lc Ls M x x1 x2 x3 x4 Q := by
  refine R.rc (x_gL (l := 1) R (by omega) (fun h d e1 => bF n10 (R.rc (x_gS R (fun h' s e2 => bF n10 ?_) (fun e2 => bT rfl (x_bad R (by unfold spLoad; rw [gLS_S e2]) q))))) (fun e1 => bT rfl (x_bad R (by unfold spLoad; rw [gLS_L e1]) q)))
  obtain ⟨g1, rfl⟩ := gLS_ok e1 e2
  obtain ⟨l1, l2, l3, l4, l5, l6, hx⟩ := R.fL e1
  obtain ⟨-, -, s3, s4, -, -⟩ := R.fS e2
  have nd := nd_le M (G.1.2.1 h')
  have es : spLoad A x1 x2 x3 x4 = match gR_ A x4 with | .inl e => rj A e | .inr u => (Int32.ofNat (ldF (aP A h') u d s), A) := by unfold spLoad; rw [g1]; rfl
  refine x_shelf (fun t e3 => bT' n10 ⟨4, 1017, ⟨by omega, by omega⟩, R.rc (x_ruleIn R e3 ⟨by omega, by omega⟩ (fun u n b a1 _ a2 a3 => ?_) (fun e z M' ρ' a1 a2 a3 a4 a5 => ⟨rfl, x_got R a2 a3 a4 a5 (by rw [es, a1]) q⟩))⟩) (fun e3 => bF' rfl (x_bad R (by rw [es]; unfold gR_; rw [e3]) q))
  rw [l1, l3, s3]
  exact x_hs R l2 ⟨6, 3000, ⟨by omega, by omega⟩, x_load hx R.cs a2 a3 (fun _ => nd) l4 s4 (fun M' ρ' f hx' _ _ _ => x_fin R l2 f.sf hx' (by rw [es, a1]) q)⟩
theorem x_meanBy (R : XRl M ρ x A G) {x1 x2 x3 x4 : Int32} {Lc Ls : Nat} {Q : Int64 → gM → Prop} {X : String → Nat → gM → Prop} (hL : 14 ≤ Lc ∧ 5267 ≤ Ls) (h1 : ∀ h d s u M' ρ', gLS A 0 x1 x2 x3 = some (h, d, s) → gR_ A x4 = .inr u → (x1 = Int32.ofNat h ∧ x2 = Int32.ofNat d ∧ x3 = Int32.ofNat s) → h < aH A → d ≤ aP A h 0 → s < 5 ^ aP A h 4 → Fx (SH (G.1.2.1 h)) ρ M ρ' M' → HX M' ρ' (G.1.2.1 h) (aP A h) → Q (MT (aP A h) u d s) M') (h0 : ∀ e z M' ρ', (gLS A 0 x1 x2 x3 = none ∧ e = 2 ∨ (∃ t, gLS A 0 x1 x2 x3 = some t) ∧ gR_ A x4 = .inl e) → (2 ≤ e ∧ e ≤ 6) → Fx S0 ρ M ρ' M' → kd M' z = some (true, .inl 4) → mI M' z 6 = -(Int32.ofNat e) → X "SendTheBox$Refused" z M') : F_X0_meanBy Lc Ls M x x1 x2 x3 x4 Q X := by
  refine R.rc (x_gL (l := 0) R (by omega) (fun h d e1 => bF n10 (R.rc (x_gS R (fun h' s e2 => bF n10 ?_) (fun e2 => bT rfl (x_refd (n := 2) (by omega) (fun M' ρ' z f k v => h0 2 z M' ρ' (Or.inl ⟨gLS_S e2, rfl⟩) (by omega) f k v)))))) (fun e1 => bT rfl (x_refd (n := 2) (by omega) (fun M' ρ' z f k v => h0 2 z M' ρ' (Or.inl ⟨gLS_L e1, rfl⟩) (by omega) f k v))))
  obtain ⟨g1, rfl⟩ := gLS_ok e1 e2
  obtain ⟨l1, l2, l3, l4, l5, l6, hx⟩ := R.fL e1
  obtain ⟨-, -, s3, s4, -, -⟩ := R.fS e2
  refine x_shelf (fun t e3 => bT' n10 ?_) (fun e3 => bF' rfl (x_refd (n := 2) (by omega) (fun M' ρ' z f k v => h0 2 z M' ρ' (Or.inr ⟨⟨_, g1⟩, by unfold gR_; rw [e3]⟩) (by omega) f k v)))
  have e0 : (x1 = Int32.ofNat h' ∧ x2 = Int32.ofNat d ∧ x3 = Int32.ofNat s) := ⟨l1, l3, s3⟩
  rw [l1, l3, s3]
  refine x_hs R l2 ⟨4, 1017, ⟨by omega, by omega⟩, R.rc (x_ruleIn R e3 ⟨by omega, by omega⟩ (fun u n b a1 _ a2 a3 => ?_) (fun e z M' ρ' a1 a2 a3 a4 a5 => ⟨rfl, h0 e z M' ρ' (Or.inr ⟨⟨_, g1⟩, a1⟩) a2 a3 a4 a5⟩))⟩
  have rw_ := rw_le M (G.1.2.1 h') u
  exact ⟨10, 4250, ⟨by omega, by omega⟩, hx.rch (x_mean hx R.cs a2 a3 rw_ l4 s4 (fun M' ρ' f hx' _ _ => h1 h' d s u M' ρ' g1 a1 e0 l2 l4 s4 f hx'))⟩
theorem x_meanO (R : XRl M ρ x A G) {x1 x2 x3 x4 : Int32} {Lc Ls : Nat} {Q : Int64 → gM → Prop} (hL : 14 ≤ Lc ∧ 5267 ≤ Ls) (q : Kx (spMean A x1 x2 x3 x4) x ρ M Q) : F_X0_mean Lc Ls M x x1 x2 x3 x4 Q := by
  refine ⟨14, 5267, ⟨by omega, by omega⟩, R.rc (x_meanBy R ⟨by omega, by omega⟩ (fun h d s u M' ρ' g1 g2 _ l2 _ _ f hx' => x_fin R l2 f hx' (by unfold spMean; rw [g1]; simp only; rw [g2]) q) (fun e z M' ρ' c a2 a3 a4 a5 => ⟨rfl, x_gotJ R a2 a3 a4 a5 ?_ q⟩))⟩
  unfold spMean
  rcases c with ⟨c1, c2⟩ | ⟨⟨t, c1⟩, c2⟩
  · rw [c1, c2]
  · obtain ⟨h, d, s⟩ := t
    rw [c1]
    simp only
    rw [c2]
theorem x_loseO (R : XRl M ρ x A G) {x1 x2 x3 x4 : Int32} {Lc Ls : Nat} {Q : Int64 → gM → Prop} (hL : 20 ≤ Lc ∧ 8267 ≤ Ls) (q : Kx (spLose A x1 x2 x3 x4) x ρ M Q) : F_X0_lose Lc Ls M x x1 x2 x3 x4 Q := by
  refine ⟨14, 5267, ⟨by omega, by omega⟩, R.rc (x_meanBy R ⟨by omega, by omega⟩ (fun h d s u M' ρ' g1 g2 g0 l2 l4 s4 f hx' => ?_) (fun e z M' ρ' c a2 a3 a4 a5 => ⟨rfl, x_gotJ R a2 a3 a4 a5 ?_ q⟩))⟩
  · have R' : XRl M' ρ' x A G := R.house (R.hx l2).kd_ f (by rw [R.2.2.2.2.2.2.2.2.1.2.2.1 h l2]; exact hx')
    have nd := nd_le M' (G.1.2.1 h)
    rw [g0.1, g0.2.1, g0.2.2]
    exact x_hs R' l2 ⟨6, 3000, ⟨by omega, by omega⟩, hx'.rch (x_cost hx' R'.cs nd l4 s4 (fun M2 ρ2 f2 hx2 _ _ => x_fin R l2 (f.tr f2.sf) hx2 (by unfold spLose; rw [g1]; simp only; rw [g2]) q))⟩
  · unfold spLose
    rcases c with ⟨c1, c2⟩ | ⟨⟨t, c1⟩, c2⟩
    · rw [c1, c2]
    · obtain ⟨h, d, s⟩ := t
      rw [c1]
      simp only
      rw [c2]
theorem XRl.work (R : XRl M ρ x A G) {h : Nat} (l2 : h < aH A) {M' : gM} {ρ' : Nat → Nat} (f : Fx (SH (G.1.2.1 h)) ρ M ρ' M') (hx' : HX M' ρ' (G.1.2.1 h) (aP A h)) : XRl M' ρ' x A G := R.house (R.hx l2).kd_ f (by rw [R.2.2.2.2.2.2.2.2.1.2.2.1 h l2]; exact hx')
theorem wl_0 {n : Nat} (hn : n ≤ 3) (b : Int64) : Int64.ofNat n * b + Int64.ofNat (4 - n) * b = 4 * b := by
  rcases (by omega : n = 0 ∨ n = 1 ∨ n = 2 ∨ n = 3) with e | e | e | e
  · rw [e]; show (0 : Int64) * b + (4 : Int64) * b = 4 * b; grind
  · rw [e]; show (1 : Int64) * b + (3 : Int64) * b = 4 * b; grind
  · rw [e]; show (2 : Int64) * b + (2 : Int64) * b = 4 * b; grind
  · rw [e]; show (3 : Int64) * b + (1 : Int64) * b = 4 * b; grind
theorem x_waitsO (R : XRl M ρ x A G) {x1 x2 x3 : Int32} {Lc Ls : Nat} {Q : Int64 → gM → Prop} (hL : 6 ≤ Lc ∧ 3000 ≤ Ls) (q : Kx (spWaits A x1 x2 x3) x ρ M Q) : F_X0_waits Lc Ls M x x1 x2 x3 Q := by
  refine R.rc (x_gL (l := 1) R (by omega) (fun h d e1 => bF n10 (R.rc (x_gS R (fun h' s e2 => bT' n10 ?_) (fun e2 => bF' rfl (x_badJ R (by unfold spWaits; rw [gLS_S e2]) q))))) (fun e1 => bT rfl (x_badJ R (by unfold spWaits; rw [gLS_L e1]) q)))
  obtain ⟨g1, rfl⟩ := gLS_ok e1 e2
  obtain ⟨l1, l2, l3, l4, l5, l6, hx⟩ := R.fL e1
  obtain ⟨-, -, s3, s4, -, -⟩ := R.fS e2
  have nd := nd_le M (G.1.2.1 h')
  rw [l1, l3, s3]
  refine x_hs R l2 ⟨6, 3000, ⟨by omega, by omega⟩, hx.rch (x_worths hx R.cs nd (fun M' ρ' p l f hx' tb fd nd' _ => ?_))⟩
  have R' := R.work l2 f.sf hx'
  obtain ⟨⟨r, hs⟩, -, hw⟩ := hx'
  refine x_rc hs (x_sending hs R'.cs hw ⟨by omega, by omega⟩ s4 (Nat.zero_le _) tb.1.2.1 ⟨0, 0, ⟨by omega, by omega⟩, (R'.hx l2).rch (x_cost (R'.hx l2) R'.cs (by omega) l4 s4 (fun M2 ρ2 f2 hx2 _ _ => x_fin R l2 (f.sf.tr f2.sf) hx2 ?_ q))⟩)
  unfold spWaits
  rw [g1]
  simp only
  have e : wlF (aP A h') d s 0 (fun t => mJ M' p (125 * (d - 1) + t)) = 4 * bh (aP A h') d s (CT (aP A h') nm (d - 1)) := by
    rw [wlF_congr hw.2.2.2.2.1.2 s4 (fun t ht => (fd (d - 1) (by omega) t ht).1)]
    unfold wlF
    rw [if_pos rfl]
    exact wl_0 hw.2.2.2.1 _
  rw [e]
theorem x_onceO (R : XRl M ρ x A G) {x1 x2 x3 : Int32} {Lc Ls : Nat} {Q : Int64 → gM → Prop} (hL : 6 ≤ Lc ∧ 3000 ≤ Ls) (q : Kx (spOnce A x1 x2 x3) x ρ M Q) : F_X0_once Lc Ls M x x1 x2 x3 Q := by
  refine R.rc (x_gL (l := 1) R (by omega) (fun h d e1 => bF n10 (R.rc (x_gS R (fun h' s e2 => bT' n10 ?_) (fun e2 => bF' rfl (x_badJ R (by unfold spOnce; rw [gLS_S e2]) q))))) (fun e1 => bT rfl (x_badJ R (by unfold spOnce; rw [gLS_L e1]) q)))
  obtain ⟨g1, rfl⟩ := gLS_ok e1 e2
  obtain ⟨l1, l2, l3, l4, l5, l6, hx⟩ := R.fL e1
  obtain ⟨-, -, s3, s4, s5, -⟩ := R.fS e2
  have nd := nd_le M (G.1.2.1 h')
  rw [l1, l3, s3]
  obtain ⟨⟨r0, hs0⟩, -, hw0⟩ := R.hx l2
  refine x_hs R l2 (x_rc hs0 (x_fill hs0 R.cs hw0 (by omega) ⟨6, 3000, ⟨by omega, by omega⟩, hx.rch (x_worths hx R.cs nd (fun M' ρ' p l f hx' tb fd nd' _ => ?_))⟩))
  have R' := R.work l2 f.sf hx'
  obtain ⟨⟨r, hs⟩, -, hw⟩ := hx'
  refine x_rc hs (x_sending hs R'.cs hw ⟨by omega, by omega⟩ s4 (fl_le hw s5) tb.1.2.1 ⟨0, 0, ⟨by omega, by omega⟩, (R'.hx l2).rch (x_cost (R'.hx l2) R'.cs (by omega) l4 s4 (fun M2 ρ2 f2 hx2 _ _ => x_fin R l2 (f.sf.tr f2.sf) hx2 ?_ q))⟩)
  unfold spOnce
  rw [g1]
  simp only
  rw [wlF_congr hw.2.2.2.2.1.2 s4 (fun t ht => (fd (d - 1) (by omega) t ht).1)]
  rfl
theorem x_dearO (R : XRl M ρ x A G) {x1 x2 x3 x4 : Int32} {Lc Ls : Nat} {Q : Int64 → gM → Prop} (hL : 6 ≤ Lc ∧ 3000 ≤ Ls) (q : Kx (spDear A x1 x2 x3 x4) x ρ M Q) : F_X0_dear Lc Ls M x x1 x2 x3 x4 Q := by
  refine R.rc (x_gL (l := 0) R (by omega) (fun h d e1 => bF n10 (R.rc (x_gS R (fun h' s e2 => bF n10 ?_) (fun e2 => bT rfl (x_badJ R (by unfold spDear; rw [gLS_S e2]) q))))) (fun e1 => bT rfl (x_badJ R (by unfold spDear; rw [gLS_L e1]) q)))
  obtain ⟨g1, rfl⟩ := gLS_ok e1 e2
  obtain ⟨l1, l2, l3, l4, l5, l6, hx⟩ := R.fL e1
  obtain ⟨-, -, s3, s4, s5, -⟩ := R.fS e2
  have e0 := (gL_some e1).1
  refine R.rc (x_gT R (fun h i e3 e4 => bF n10 ?_) (fun e3 => by rw [e0] at e3; cases e3) (fun h e3 e4 => bT rfl (x_badJ R (by
    rw [e0] at e3
    cases e3
    unfold spDear
    rw [g1]
    simp only
    rw [e4]) q)))
  rw [e0] at e3
  cases e3
  have d4 := dec_some e4
  have es : spDear A x1 x2 x3 x4 = if dg s i = 4 then rjJ A 2 else (CT (aP A h') nm d (s + 5 ^ i) - CT (aP A h') nm d s, A) := by unfold spDear; rw [g1]; simp only; rw [e4]
  have nd := nd_le M (G.1.2.1 h')
  have hw := hx.2.2
  have h4 := hw.2.2.2.2.1.2
  have hdg : dg s i ≤ 4 := by unfold dg; omega
  rw [l1, l3, s3, d4.2.1]
  refine x_standing R.cs (by omega) (by omega) ?_
  rw [i32_lit 4]
  refine eqS' (by omega) (by omega) (fun c => ?_) (fun c => x_badJ R (by rw [es, if_pos c]) q)
  have hs5 : s + 5 ^ i < 5 ^ aP A h' 4 := by
    have key : ∀ k, k < 4 → ∀ i, i < k → ∀ s, s < 5 ^ k → dg s i ≠ 4 → s + 5 ^ i < 5 ^ k := by decide +kernel
    exact key _ (by omega) i d4.1 s s4 c
  refine x_hs R l2 (x_place R.cs (by omega) ⟨6, 3000, ⟨by omega, by omega⟩, hx.rch ?_⟩)
  rw [i32_add]
  refine x_cost hx R.cs nd l4 hs5 (fun M' ρ' f hx' nd' _ => ?_)
  have R' := R.work l2 f.sf hx'
  exact ⟨0, 0, ⟨by omega, by omega⟩, hx'.rch (x_cost hx' R'.cs (by omega) l4 s4 (fun M2 ρ2 f2 hx2 _ _ => x_fin R l2 (f.sf.tr f2.sf) hx2 (by rw [es, if_neg c]) q))⟩
end XOP1
