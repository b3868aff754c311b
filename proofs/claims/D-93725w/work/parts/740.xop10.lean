/-! the class's operations: two houses -/
set_option maxRecDepth 100000
section XOP10
variable {M : gM} {ρ : Nat → Nat} {x : Nat} {A : Ab} {G : XG}
theorem x_joinedO (R : XRl M ρ x A G) {x1 x2 : Int32} {Lc Ls : Nat} {Q : Nat → gM → Prop} {X : String → Nat → gM → Prop} (hL : 6 ≤ Lc ∧ 32 ≤ Ls) (h1 : ∀ h g N ρN b rb, gJ2 A x1 x2 = .inr (h, g) → (x1 = Int32.ofNat h ∧ x2 = Int32.ofNat g) → (h < aH A ∧ g < aH A ∧ h ≠ g) → (aP A h 0 = aP A g 0 ∧ aP A h 4 + aP A g 4 ≤ 3) → CpX M ρ N ρN b rb (jn (aP A h) (aP A g)) → Q b N) (h0 : ∀ e q M' ρ', gJ2 A x1 x2 = .inl e → (2 ≤ e ∧ e ≤ 6) → Fx S0 ρ M ρ' M' → kd M' q = some (true, .inl 4) → mI M' q 6 = -(Int32.ofNat e) → X "SendTheBox$Refused" q M') : F_X0_joined Lc Ls M x x1 x2 Q X := by
  have bad : ∀ n, 2 ≤ n ∧ n ≤ 6 → gJ2 A x1 x2 = .inl n → nO M 0 0 Lc Ls 4 7 fun a M2 => F_X4_init M2 a (-(Int32.ofNat n)) fun M3 => (kd M3 a = some (true, .inl 4)) ∧ X "SendTheBox$Refused" a M3 := fun n hn e => x_refd (by omega) (fun M' ρ' z f k v => h0 n z M' ρ' e hn f k v)
  refine R.rc (x_gH R (fun h e1 => bF n10 ?_) (fun e1 => bT rfl (bad 2 (by omega) (by unfold gJ2; rw [e1]))))
  refine R.rc (x_gH R (fun g e2 => bF n10 ?_) (fun e2 => bT rfl (bad 2 (by omega) (by unfold gJ2; rw [e1, e2]))))
  have d1 := dec_some e1
  have d2 := dec_some e2
  have e0 : gJ2 A x1 x2 = if h = g then .inl 2 else if aP A h 0 = aP A g 0 ∧ aP A h 4 + aP A g 4 ≤ 3 then .inr (h, g) else .inl 5 := by unfold gJ2; rw [e1, e2]
  have ex : x1 = Int32.ofNat h ∧ x2 = Int32.ofNat g := ⟨d1.2.1, d2.2.1⟩
  rw [d1.2.1, d2.2.1]
  refine eqS' d1.2.2 d2.2.2 (fun c => ?_) (fun c => bad 2 (by omega) (by rw [e0, if_pos c]))
  have hx := R.hx d1.1
  have hx' := R.hx d2.1
  obtain ⟨⟨r, hs⟩, -, hw⟩ := hx
  obtain ⟨⟨r', hs'⟩, -, hw'⟩ := hx'
  have a0 := hw.1
  have b0 := hw'.1
  have a4 := hw.2.2.2.2.1
  have b4 := hw'.2.2.2.2.1
  refine x_hs R d1.1 (x_hs R d2.1 (x_gI hs (by omega) (x_gI hs' (by omega) (eqS' (by omega) (by omega) (fun c1 => bad 5 (by omega) (by rw [e0, if_neg c, if_neg (fun z => c1 z.1)])) (fun c1 => x_gI hs (by omega) (x_gI hs' (by omega) ?_))))))
  rw [i32_add]
  refine leS (b := 3) (by omega) (by omega) (fun c2 => ⟨6, 32, ⟨by omega, by omega⟩, x_rc hs (x_joined hs hw hs' hw' c2 ⟨by omega, by omega⟩ (fun N ρN b rb cp => h1 h g N ρN b rb (by rw [e0, if_neg c, if_pos ⟨c1, c2⟩]) ex ⟨d1.1, d2.1, c⟩ ⟨c1, c2⟩ cp))⟩) (fun c2 => bad 5 (by omega) (by rw [e0, if_neg c, if_neg (fun z => by omega)]))
theorem x_joinO (R : XRl M ρ x A G) {x1 x2 : Int32} {Lc Ls : Nat} {Q : Int32 → gM → Prop} (hL : 6 ≤ Lc ∧ 32 ≤ Ls) (q : Kx (spJoin A x1 x2) x ρ M Q) : F_X0_join Lc Ls M x x1 x2 Q := by
  have h6 := R.h6
  refine ⟨6, 32, ⟨by omega, by omega⟩, R.rc (x_joinedO R ⟨by omega, by omega⟩ (fun h g N ρN b rb ej ex hhg hc cp => ?_) (fun e z M' ρ' a1 a2 a3 a4 a5 => ⟨rfl, x_got R a2 a3 a4 a5 (by unfold spJoin; rw [a1]) q⟩))⟩
  have es : spJoin A x1 x2 = if aH A = 6 then rj A 6 else (Int32.ofNat (aH A), sNow A (addH (aNow A) (jn (aP A h) (aP A g)))) := by unfold spJoin; rw [ej]
  have RN := R.new cp.1
  have hW := jn_wf (R.hx hhg.1).2.2 (R.hx hhg.2.1).2.2 hc.2
  obtain ⟨k0, k1, -⟩ := RN.2.2.2.2.2.2.2.2.1
  refine gN_i RN.1.1 k0 (gI_i k1.1.1 ?_)
  rw [k1.2.2.1.1]
  refine eqS' (a := aH A) (b := 6) (by omega) (by omega) (fun c => ?_) (fun c => x_rj (n := 6) RN (by omega) (by rw [es, if_pos c]) (q.ext (cp.1.ext (fun t i z => z.elim))))
  rw [if_neg c] at es
  rw [es] at q
  obtain ⟨hs, j1, j2, j3, j4, j5, RF, ex'⟩ := R.addh cp.1 (cp.hx hW) cp.2.2.2.1 (by omega)
  refine gN_i RN.1.1 k0 (gN_i k1.1.1 j1 (gN_i RN.1.1 k0 (gI_i k1.1.1 ?_)))
  rw [j4]
  refine ⟨⟨6, j2, by rw [vp_inN (by omega)]; omega⟩, ⟨true, (cp.hx hW).kd_⟩, ?_⟩
  rw [i32_nat (by omega)]
  have nkx : x ≠ hs := fun e => by
    have h0 := RN.1.1
    rw [e, j2] at h0
    cases h0
  refine gN_i (M := sR N hs (aH A) (some b)) RN.1.1 ((mR_ne (Or.inl nkx)).trans k0) (gI_i (M := sR N hs (aH A) (some b)) k1.1.1 ⟨k1.1.1, ?_⟩)
  have e1 : mI (sR N hs (aH A) (some b)) G.1.1 1 = Int32.ofNat (aH A) := j4
  rw [e1, i32_lit 1, i32_add]
  exact q _ _ _ RF ex'
/-- a house that is none of the state's is known -/
theorem XRl.guest {N : gM} {ρN P : Nat → Nat} {b : Nat} (R : XRl M ρ x A G) (f : Fx S0 ρ M ρN N) (hf : kd M b = none) : XRl N ρN x A ((G.1.1, G.1.2), G.2.1, G.2.2.1, fun z => if z = b then P else G.2.2.2 z) := by
  have nb : ∀ z, kd M z ≠ none → z ≠ b := fun z hz e => hz (by rw [e]; exact hf)
  have kA := R.2.2.2.2.2.2.2.2.1.2.2
  have kM := R.2.2.2.2.2.2.2.2.1.2.1
  have ho : ∀ z, HX M ρ z (G.2.2.2 z) → HX N ρN z ((fun z => if z = b then P else G.2.2.2 z) z) := fun z hz => by
    simp only
    rw [if_neg (nb z (live_of hz.kd_))]
    exact hz.cl f (fun k i _ => S0.no)
  have kA' : KpA (aNow A) G.1.2 (fun z => if z = b then P else G.2.2.2 z) := ⟨fun h hh => (if_neg (nb _ (live_of (R.hx hh).kd_))).trans (kA.1 h hh), fun v ev => by
    have k7 := kM.2.2.2.2.2
    rw [ev] at k7
    exact (if_neg (nb _ (live_of k7.2.2.1.2.kd_))).trans (kA.2 v ev)⟩
  exact R.now (K' := aNow A) (g' := G.1.2) (pA := fun z => if z = b then P else G.2.2.2 z) f (fun z _ _ _ k i _ => S0.no) ho (fun z hz _ => if_neg (nb z hz)) (fun i => S0.no) ⟨kM.fx f (fun k i _ => S0.no) (fun _ _ k i _ => S0.no) (fun c u n h => h.cl f (fun k i _ => S0.no)) ho kA kA', kA'⟩ ⟨R.2.2.2.2.2.2.2.2.2.1, R.2.2.2.2.2.2.2.2.2.2.1⟩ (fun h hh => Or.inl ⟨h, hh, rfl⟩) (fun w ew => Or.inl ⟨w, ew, rfl⟩)
theorem x_savedO (R : XRl M ρ x A G) {x1 x2 : Int32} {Lc Ls : Nat} {Q : Int64 → gM → Prop} (hL : 24 ≤ Lc ∧ 9032 ≤ Ls) (q : Kx (spSaved A x1 x2) x ρ M Q) : F_X0_saved Lc Ls M x x1 x2 Q := by
  refine ⟨6, 32, ⟨by omega, by omega⟩, R.rc (x_joinedO R ⟨by omega, by omega⟩ (fun h g N ρN b rb ej ex hhg hc cp => ?_) (fun e z M' ρ' a1 a2 a3 a4 a5 => ⟨rfl, x_gotJ R a2 a3 a4 a5 (by unfold spSaved; rw [a1]) q⟩))⟩
  have es : spSaved A x1 x2 = (if 0 ≤ svF (aP A h) (aP A g) then svF (aP A h) (aP A g) else 0, A) := by unfold spSaved; rw [ej]
  obtain ⟨hh, hg, hne⟩ := hhg
  have hwh := (R.hx hh).2.2
  have hwg := (R.hx hg).2.2
  have hW := jn_wf hwh hwg hc.2
  have hb := cp.hx hW
  have R1 : XRl N ρN x A ((G.1.1, G.1.2), G.2.1, G.2.2.1, fun z => if z = b then jn (aP A h) (aP A g) else G.2.2.2 z) := R.guest cp.1 cp.2.2.2.1
  have hx1 := R1.hx hh
  have nd1 := nd_le N (G.1.2.1 h)
  rw [ex.1, ex.2]
  refine x_hs R1 hh (x_hs R1 hg (hx1.gi (by omega) ⟨6, 3000, ⟨by omega, by omega⟩, hx1.rch (x_cost hx1 R1.cs nd1 (Nat.le_refl _) (p5_pos _) (fun M2 ρ2 f2 hx2 _ _ => ?_))⟩))
  have R2 := R1.work hh f2.sf hx2
  have hy2 := R2.hx hg
  have nd2 := nd_le M2 (G.1.2.1 g)
  have bh_ : b ≠ G.1.2.1 h := fun e => by
    have := live_of (R.hx hh).kd_
    rw [← e] at this
    exact this cp.2.2.2.1
  have bg_ : b ≠ G.1.2.1 g := fun e => by
    have := live_of (R.hx hg).kd_
    rw [← e] at this
    exact this cp.2.2.2.1
  have hb2 := HX.other f2.sf bh_ hb
  refine hx2.gi (by omega) (hy2.gi (by omega) (hy2.gi (by omega) ⟨6, 3000, ⟨by omega, by omega⟩, hy2.rch (x_cost hy2 R2.cs nd2 (Nat.le_refl _) (p5_pos _) (fun M3 ρ3 f3 hx3 _ _ => ?_))⟩))
  have R3 := R2.work hg f3.sf hx3
  have hz3 := R3.hx hh
  have hb3 := HX.other f3.sf bg_ hb2
  have nd3 := nd_le M3 b
  refine hz3.gi (by omega) (hz3.gi (by omega) (hb3.gi (by omega) ⟨6, 3000, ⟨by omega, by omega⟩, hb3.rch (x_cost hb3 R3.cs nd3 (Nat.le_refl _) (p5_pos _) (fun M4 ρ4 f4 hx4 _ _ => ?_))⟩))
  have R4 : XRl M4 ρ4 x A ((G.1.1, G.1.2), G.2.1, G.2.2.1, fun z => if z = b then jn (aP A h) (aP A g) else G.2.2.2 z) := R3.house hb3.kd_ f4.sf (by
    show HX M4 ρ4 b (if b = b then jn (aP A h) (aP A g) else G.2.2.2 b)
    rw [if_pos rfl]
    exact hx4)
  have e4 : Ext ρ M ρ4 M4 := (((cp.1.ext (fun t i z => z.elim)).tr (f2.ext (fun t i z => z.ge))).tr (f3.ext (fun t i z => z.ge))).tr (f4.ext (fun t i z => z.ge))
  have d6 := hwh.1.2
  have k3 := hwh.2.2.2.2.1.2
  have k3' := hwg.2.2.2.2.1.2
  have s1 : 2 * aP A h 0 * aP A g 4 < 64 := by
    have := Nat.mul_le_mul (show 2 * aP A h 0 ≤ 12 by omega) k3'
    omega
  have s2 : 2 * aP A h 0 * aP A h 4 < 64 := by
    have := Nat.mul_le_mul (show 2 * aP A h 0 ≤ 12 by omega) k3
    omega
  have hj0 : jn (aP A h) (aP A g) 0 = aP A h 0 := by unfold jn; rw [if_neg (by omega), if_pos (by omega)]
  rw [i32_lit 2, i32_mul, i32_mul, i32_mul, shl_mul _ s1, shl_mul _ s2, Nat.mul_assoc, Nat.mul_assoc, p2_4, p2_4, hj0]
  have ev : CT (aP A h) nm (aP A h 0) 0 * Int64.ofNat (4 ^ (aP A h 0 * aP A g 4)) + CT (aP A g) nm (aP A g 0) 0 * Int64.ofNat (4 ^ (aP A h 0 * aP A h 4)) - CT (jn (aP A h) (aP A g)) nm (aP A h 0) 0 = svF (aP A h) (aP A g) := rfl
  rw [ev]
  rw [es] at q
  by_cases c : 0 ≤ svF (aP A h) (aP A g)
  · rw [if_neg (Int64.not_lt.mpr c)]
    rw [if_pos c] at q
    exact q _ _ _ R4 e4
  · rw [if_pos (Int64.not_le.mp c)]
    rw [if_neg c] at q
    exact q _ _ _ R4 e4
end XOP10
