/-! the class's houses: chances -/
set_option maxRecDepth 100000
theorem i64_eq {a b : Nat} (ha : a < 9223372036854775808) (hb : b < 9223372036854775808) : (Int64.ofNat a = Int64.ofNat b) = (a = b) := by
  refine propext ⟨fun h => ?_, fun h => by rw [h]⟩
  have := congrArg Int64.toInt h
  rw [i64_toInt ha, i64_toInt hb] at this
  omega
theorem spN_0 (P : Nat → Nat) (v : Nat) (G : Nat → Nat) : ∀ n t, spN P v 0 G n t = G t := by
  intro n
  induction n with
  | zero => intro t; rfl
  | succ n ihn =>
    intro t
    show spN P v 0 G n t + (if t = _ then 0 * _ else 0) = G t
    rw [ihn t, Nat.zero_mul]
    split <;> rfl
section XCH
variable {M M' : gM} {a b : Nat} {r ρ P : Nat → Nat} {u : Ru} {n : Nat}
theorem Onl.hsx (f : Onl b M M') (h : HsX M ρ a r P) : HsX M' ρ a r P := by
  unfold HsX at h ⊢
  rw [f.1.1, f.1.2.1, f.1.2.2.2]
  exact h
theorem Onl.csx (f : Onl b M M') (h : CsA M ρ) : CsA M' ρ := by
  unfold CsA StA at h ⊢
  rw [f.1.1, f.1.2.1, f.1.2.2.1, f.1.2.2.2]
  exact h
theorem x_spreads (h : HsX M ρ a r P) (C : CsA M ρ) (hw : Wf P) {s w : Nat} {D : Nat → Nat} {Q : gM → Prop} (hs : s < 5 ^ P 4) (hww : w < 9223372036854775808) (hb : kd M b = some (true, .inr (.long, 125))) (hD : ∀ t, t < 125 → mJ M b t = Int64.ofNat (D t)) (q : ∀ M', Onl b M M' → (∀ t, t < 125 → mJ M' b t = Int64.ofNat (spN P s w D (2 ^ P 4) t)) → Q M') : F_X12_spreads M a b (Int32.ofNat s) (Int64.ofNat w) Q := by
  have hk := hw.2.2.2.2.1
  have h5 := p5_le hk.2
  have h2 := p2_le hk.2
  refine loopV (fun g v N => F_X12_spreads_b3 Q a b (Int32.ofNat s) (Int64.ofNat w) g v N) (fun c => Int32.ofNat c) (fun c N => Onl b M N ∧ ∀ t, t < 125 → mJ N b t = Int64.ofNat (spN P s w D c t)) (2 ^ P 4) (fun c hc g N hI k => ?_) (fun g N hI => ?_) M ⟨Onl.rf, hD⟩
  · obtain ⟨f, hN⟩ := hI
    have hsN := f.hsx h
    have CN := f.csx C
    have hbN : kd N b = some (true, .inr (.long, 125)) := by rw [f.1.1]; exact hb
    refine x_gI hsN (by omega) ?_
    rw [sh_m _ (by omega)]
    refine leF hc (by omega) ?_
    rw [i64_lit 0, i64_le hww (by omega)]
    refine ⟨fun z => q N f (fun t ht => ?_), fun z => ?_⟩
    · have hw0 : w = 0 := by omega
      rw [hN t ht, hw0, spN_0, spN_0]
    · have ht := th_lt (P := P) hk.2 (show c < 8 by omega) hs
      have ge := loopC (fun g' v N => F_X12_spreads_b29 Q (F_X12_spreads_b3 Q a b (Int32.ofNat s) (Int64.ofNat w) g) a b (Int32.ofNat s) (Int64.ofNat w) (Int32.ofNat c) g' v.1 v.2.1 v.2.2 N) (fun i => (Int64.ofNat (w * wtN P c i), Int32.ofNat (thN P c s i), Int32.ofNat i)) N (P 4) (fun i hi g' k' => ?_) (fun g' => ?_)
      · have e1 : w * wtN P c 0 = w := Nat.mul_one w
        simp only [e1] at ge
        exact ge
      · show F_X12_spreads_b29 Q (F_X12_spreads_b3 Q a b (Int32.ofNat s) (Int64.ofNat w) g) a b (Int32.ofNat s) (Int64.ofNat w) (Int32.ofNat c) (g' + 1) (Int64.ofNat (w * wtN P c i)) (Int32.ofNat (thN P c s i)) (Int32.ofNat i) N
        have hP6 := (hw.2.2.2.2.2 i (by omega)).2.1
        have hdg := dg_le s i
        have go : ∀ (v t : Nat), v = (if bt c i then P (6 + 5 * i) else 4 - P (6 + 5 * i)) → t = (if bt c i = true ∧ dg s i ≠ 4 then 5 ^ i else 0) → F_X12_spreads_b114 Q (F_X12_spreads_b3 Q a b (Int32.ofNat s) (Int64.ofNat w) g) (F_X12_spreads_b29 Q (F_X12_spreads_b3 Q a b (Int32.ofNat s) (Int64.ofNat w) g) a b (Int32.ofNat s) (Int64.ofNat w) (Int32.ofNat c) g') a b (Int32.ofNat s) (Int64.ofNat w) (Int32.ofNat c) (Int64.ofNat (w * wtN P c i) * Int64.ofNat v) (Int32.ofNat i) (Int32.ofNat (thN P c s i)) (Int32.ofNat t) N := by
          intro v t hv ht
          unfold F_X12_spreads_b114
          rw [i64_mul, i32_add, i32_lit 1, i32_add, Nat.mul_assoc, hv, ht]
          exact k'
        refine x_gI hsN (by omega) (leF hi (by omega) ?_)
        rw [bt_m1 c (by omega) i (by omega)]
        refine ⟨fun cb => bT rfl (x_row (w := 1) hsN rfl (by omega) hk.2 hi (bT rfl ?_)), fun cb => bF n10 (x_row (w := 1) hsN rfl (by omega) hk.2 hi (bF n10 (x_standing CN (by omega) (by omega) (leS (a := 4) (by omega) (by omega) (fun c4 => ?_) (fun c4 => x_place CN (by omega) ?_)))))⟩
        · rw [show 5 + 5 * i + 1 = 6 + 5 * i by omega, i32_lit 4, i32_sub hP6, i64_of (by omega)]
          exact go _ 0 (by rw [if_neg cb]) (by rw [if_neg (fun z => cb z.1)])
        · rw [show 5 + 5 * i + 1 = 6 + 5 * i by omega, i64_of (by omega)]
          exact go _ 0 (by rw [if_pos cb]) (by rw [if_neg (fun z => by omega)])
        · rw [show 5 + 5 * i + 1 = 6 + 5 * i by omega, i64_of (by omega)]
          exact go _ _ (by rw [if_pos cb]) (by rw [if_pos ⟨cb, by omega⟩])
      · show F_X12_spreads_b29 Q (F_X12_spreads_b3 Q a b (Int32.ofNat s) (Int64.ofNat w) g) a b (Int32.ofNat s) (Int64.ofNat w) (Int32.ofNat c) (g' + 1) (Int64.ofNat (w * wtN P c (P 4))) (Int32.ofNat (thN P c s (P 4))) (Int32.ofNat (P 4)) N
        refine x_gI hsN (by omega) (leT (Nat.le_refl _) (by omega) (aJ_i hbN (by omega) (by omega) (uJ_i hbN (by omega) (by omega) ?_)))
        rw [hN _ (by omega), i64_add, i32_lit 1, i32_add]
        refine k _ ⟨f.wJ, fun t ht2 => ?_⟩
        show _ = Int64.ofNat (spN P s w D c t + (if t = thN P c s (P 4) then w * wtN P c (P 4) else 0))
        by_cases e : t = thN P c s (P 4)
        · rw [if_pos e, e, mJ_eq]
        · rw [if_neg e, mJ_ne (Or.inr e), hN t ht2]
          rfl
  · obtain ⟨f, hN⟩ := hI
    refine x_gI (f.hsx h) (by omega) ?_
    rw [sh_m _ (by omega)]
    exact leT (Nat.le_refl _) (by omega) (q N f hN)
theorem x_jfill {v : Int64} {Q : gM → Prop} (hb : kd M b = some (true, .inr (.long, 125))) (q : ∀ M', Onl b M M' → (∀ t, t < 125 → mJ M' b t = v) → Q M') : F_J15_fill M b v Q := by
  refine ⟨true, .long, 125, hb, by simp [gTl], ?_⟩
  refine loopV (fun g x N => F_J15_fill_b6 Q b v (Int32.ofNat 125) g x N) (fun i => Int32.ofNat i) (fun i N => Onl b M N ∧ ∀ t, t < i → mJ N b t = v) 125 (fun i hi g N hI k => ?_) (fun g N hI => ?_) M ⟨Onl.rf, fun t ht => absurd ht (Nat.not_lt_zero _)⟩
  · obtain ⟨f, w⟩ := hI
    have hbN : kd N b = some (true, .inr (.long, 125)) := by rw [f.1.1]; exact hb
    refine leF hi (by omega) (uJ_i hbN hi (by omega) ?_)
    rw [i32_lit 1, i32_add]
    refine k _ ⟨f.wJ, fun t ht => ?_⟩
    by_cases e : t = i
    · rw [e]; exact mJ_eq
    · exact (mJ_ne (Or.inr e)).trans (w t (by omega))
  · exact leT (Nat.le_refl _) (by omega) (q N hI.1 hI.2)
/-- the row of chances behind so many days -/
def eR (c : Nat → Nat) (j : Nat) : Nat := if j % 2 = 0 then c 2 else c 3
theorem eR_or (c : Nat → Nat) (j : Nat) : ∃ k, (k = 2 ∨ k = 3) ∧ eR c j = c k := by
  unfold eR
  split
  · exact ⟨2, Or.inl rfl, rfl⟩
  · exact ⟨3, Or.inr rfl, rfl⟩
theorem eR_ne {N : gM} {ρN c : Nat → Nat} (h : RmA N ρN a c) (j : Nat) : eR c j ≠ eR c (j + 1) := by
  have h2 := (h 2 (by omega)).2.2
  have h3 := (h 3 (by omega)).2.2
  have n23 : c 2 ≠ c 3 := fun e => by
    rw [e, h3] at h2
    have := (Tg_inj (by omega) (by omega) h2).2
    omega
  unfold eR
  by_cases e : j % 2 = 0
  · rw [if_pos e, if_neg (by omega)]; exact n23
  · rw [if_neg e, if_pos (by omega)]; exact n23.symm
theorem SF.rows {ρN ρ' c : Nat → Nat} {N N' : gM} (h : RmA N ρN a c) (f : Fx (SF a) ρN N ρ' N') {k : Nat} (hk : k = 0 ∨ k = 2 ∨ k = 3) (i : Nat) : mJ N' (c k) i = mJ N (c k) i := by
  obtain ⟨g1, g2, g3⟩ := h k (by omega)
  refine ((f.2 (c k) (live_of g2)).2 i ?_).2.1
  rw [g3]
  rintro (⟨e, -⟩ | e | e | e)
  · have := (Tg_inj (by omega) (by omega) e).2; omega
  · have := (Tg_inj (by omega) (by omega) e).2; omega
  · have := (Tg_inj (by omega) (by omega) e).2; omega
  · have := (Tg_inj (by omega) (by omega) e).2; omega
theorem x_chances (h : HX M ρ a P) (C : CsA M ρ) (hr : RuX M ρ b u n) (hwu : WfR u) {Lc Ls d : Nat} {Q : Nat → gM → Prop} (hL : rC M a + wC u M a ≤ Lc ∧ rS M a + wS u M a ≤ Ls) (hd : d ≤ P 0) (q : ∀ M' ρ' c x' y', Jx M ρ a b P u n Lc Ls c x' y' M' ρ' → (ndC M' a ≤ ndC M a ∧ ndS M' a ≤ ndS M a) → (∀ t, t < 125 → mJ M' (eR c (P 0 - d)) t = Int64.ofNat (chN P u (P 0 - d) t)) → Q (eR c (P 0 - d)) M') : F_X12_chances Lc Ls M a b (Int32.ofNat d) Q := by
  obtain ⟨⟨r, hs⟩, ca, hw⟩ := id h
  have hk := hw.2.2.2.2.1
  have h5 := p5_le hk.2
  have hd0 := hw.1
  have hf3 := hw.2.2.2.1
  refine ⟨rC M a, rS M a, ⟨by omega, by omega⟩, x_rc hs (x_makesRoom h (fun e => by unfold rC rS; rw [if_pos e, if_pos e]; omega) (fun M1 ρ1 c f1 h1 rm e10 e12 same => ?_))⟩
  obtain ⟨⟨r1, hs1⟩, ca1, -⟩ := id h1
  have f1H := f1.mono (fun _ _ z => z.sh)
  have e13 : ∀ {N : gM} {ρN : Nat → Nat}, RmA N ρN a c → mR N a 13 ≠ none := fun z => by rw [(z 0 (by omega)).1]; exact fun z => by cases z
  have nd1 : ndC M1 a ≤ ndC M a ∧ ndS M1 a ≤ ndS M a := by
    unfold ndC ndS
    rw [if_neg (e13 rm), if_neg (e13 rm), e10]
    constructor <;> omega
  have J1 : Jx M ρ a b P u n Lc Ls c (0 + rC M a) (0 + rS M a) M1 ρ1 := ⟨f1H, h1, f1H.csH C, hr.sh f1H hs.1.1, rm, by have := (w_mono (u := u) nd1).1; omega, by have := (w_mono (u := u) nd1).2; omega⟩
  have kr : ∀ {N : gM} {ρN : Nat → Nat}, RmA N ρN a c → ∀ j, kd N (eR c j) = some (true, .inr (.long, 125)) := fun z j => by
    obtain ⟨k, hk', e⟩ := eR_or c j
    rw [e]
    have := (z k (by omega)).2.1
    rw [if_neg (by omega)] at this
    exact this
  have ndO : ∀ {N N' : gM} {z : Nat}, Onl z N N' → (ndC N' a = ndC N a ∧ ndS N' a = ndS N a) := fun f => by unfold ndC ndS; rw [f.1.2.1]; exact ⟨rfl, rfl⟩
  refine gN_i hs1.1.1 (rm 2 (by omega)).1 (gN_i hs1.1.1 (rm 3 (by omega)).1 (x_jfill (kr rm 0) (fun M2 f2 w2 => ?_)))
  have J2 := J1.on (k := 2) (by omega) f2
  refine uJ_i (i := 0) (kr J2.2.2.2.2.1 0) (by omega) (by omega) ?_
  have J3 := J2.w (k := 2) (i := 0) (v := (1 : Int64)) (by omega)
  obtain ⟨⟨r3, hs3⟩, -, -⟩ := id J3.2.1
  refine x_gI hs3 (by omega) ?_
  have nd2 := ndO f2
  refine loopR (fun g (v : Nat × Nat × Int32 × Nat × Nat) N => F_X12_chances_b30 Q Lc Ls a b (Int32.ofNat d) g v.1 v.2.1 v.2.2.1 v.2.2.2.1 v.2.2.2.2 N) (fun j v N => ∃ ρN, v.1 = eR c j ∧ v.2.1 = eR c (j + 1) ∧ v.2.2.1 = Int32.ofNat (P 0 - j) ∧ Jx M ρ a b P u n Lc Ls c v.2.2.2.1 v.2.2.2.2 N ρN ∧ (ndC N a ≤ ndC M a ∧ ndS N a ≤ ndS M a) ∧ ∀ t, t < 125 → mJ N (eR c j) t = Int64.ofNat (chN P u j t)) (P 0 - d) (fun j hj g v N hI k => ?_) (fun g v N hI => ?_) (c 2, c 3, Int32.ofNat (P 0), _, _) _ ⟨ρ1, rfl, rfl, rfl, J3, ⟨by show ndC M2 a ≤ _; omega, by show ndS M2 a ≤ _; omega⟩, fun t ht => ?_⟩
  · obtain ⟨v1, v2, v3, x, y⟩ := v
    obtain ⟨ρN, q1, q2, q3, J, nd, w⟩ := hI
    simp only at q1 q2 q3 J
    subst q1 q2 q3
    show F_X12_chances_b30 Q Lc Ls a b (Int32.ofNat d) (g + 1) (eR c j) (eR c (j + 1)) (Int32.ofNat (P 0 - j)) x y N
    have nej := eR_ne J.2.2.2.2.1 j
    obtain ⟨k1, hk1, ek1⟩ := eR_or c (j + 1)
    obtain ⟨k0, hk0, ek0⟩ := eR_or c j
    refine leF (by omega) (by omega) (x_jfill (kr J.2.2.2.2.1 (j + 1)) (fun N2 f2 w2 => ?_))
    have J2 : Jx M ρ a b P u n Lc Ls c x y N2 ρN := J.on (k := k1) (by omega) (by rw [← ek1]; exact f2)
    have nd2 := ndO f2
    refine loopR (fun g' (v : Int32 × Nat × Nat) N => F_X12_chances_b45 Q Lc Ls (F_X12_chances_b30 Q Lc Ls a b (Int32.ofNat d) g) a b (Int32.ofNat d) (eR c j) (eR c (j + 1)) (Int32.ofNat (P 0 - j)) g' v.1 v.2.1 v.2.2 N) (fun s v N => ∃ ρN, v.1 = Int32.ofNat s ∧ Jx M ρ a b P u n Lc Ls c v.2.1 v.2.2 N ρN ∧ (ndC N a ≤ ndC M a ∧ ndS N a ≤ ndS M a) ∧ (∀ t, t < 125 → mJ N (eR c j) t = Int64.ofNat (chN P u j t)) ∧ ∀ t, t < 125 → mJ N (eR c (j + 1)) t = Int64.ofNat (stN P u (P 0 - j) (chN P u j) s t)) (5 ^ P 4) (fun s hs5 g' v N hI k' => ?_) (fun g' v N hI => ?_) ((0 : Int32), x, y) N2 ⟨ρN, rfl, J2, ⟨by omega, by omega⟩, fun t ht => (f2.2 _ _ nej).trans (w t ht), fun t ht => (w2 t ht).trans rfl⟩
    · obtain ⟨v1, x, y⟩ := v
      obtain ⟨ρN, q1, J, nd, w, ws⟩ := hI
      simp only at q1 J
      subst q1
      obtain ⟨⟨rN, hsN⟩, -, -⟩ := id J.2.1
      have hch := chN_lt hw (u := u) (j := j) (t := s) (by omega) hs5
      have hle := ldF_le hw (u := u) (d := P 0 - j) (s := s) (by omega)
      have p24 : (4 : Nat) ^ 24 = 281474976710656 := by decide
      refine x_rc hsN (x_states hsN hk (leF hs5 (by omega) (aJ_i (kr J.2.2.2.2.1 j) (by omega) (by omega) ?_)))
      rw [w s (by omega), i64_lit 0, i64_eq (by omega) (by omega)]
      have eD : stN P u (P 0 - j) (chN P u j) (s + 1) = spN P (s - ldF P u (P 0 - j) s) (chN P u j s * (4 - P 3)) (spN P s (chN P u j s * P 3) (stN P u (P 0 - j) (chN P u j) s) (2 ^ P 4)) (2 ^ P 4) := rfl
      refine ⟨fun z => ?_, fun z => ?_⟩
      · refine J.load (Q := fun v x' y' N' => gI N' 12 a 3 fun x_8 => aJ N' (eR c j) (Int32.ofNat s) fun j_9 => rc N' 12 a ∧ F_X12_spreads N' a (eR c (j + 1)) (Int32.ofNat s) (x_8.toInt64 * j_9) fun M_10 => gI M_10 12 a 3 fun x_12 => aJ M_10 (eR c j) (Int32.ofNat s) fun j_13 => rc M_10 12 a ∧ F_X12_spreads M_10 a (eR c (j + 1)) (Int32.ofNat s - v) (((4 : Int32) - x_12).toInt64 * j_13) fun M_14 => F_X12_chances_b120 Q Lc Ls (F_X12_chances_b30 Q Lc Ls a b (Int32.ofNat d) g) (F_X12_chances_b45 Q Lc Ls (F_X12_chances_b30 Q Lc Ls a b (Int32.ofNat d) g) a b (Int32.ofNat d) (eR c j) (eR c (j + 1)) (Int32.ofNat (P 0 - j)) g') a b (Int32.ofNat d) (eR c j) (eR c (j + 1)) (Int32.ofNat (P 0 - j)) (Int32.ofNat s) x' y' M_14) hwu (d := P 0 - j) (s := s) (by omega) hs5 (fun N' ρ' x' y' J' f' nd' => ?_)
        obtain ⟨⟨rN', hsN'⟩, -, -⟩ := id J'.2.1
        have sameJ : ∀ i, mJ N' (eR c j) i = mJ N (eR c j) i := fun i => by rw [ek0]; exact SF.rows J.2.2.2.2.1 f' (by omega) i
        have same1 : ∀ i, mJ N' (eR c (j + 1)) i = mJ N (eR c (j + 1)) i := fun i => by rw [ek1]; exact SF.rows J.2.2.2.2.1 f' (by omega) i
        have w1 : chN P u j s * P 3 < 9223372036854775808 := by have := Nat.mul_le_mul hch hf3; omega
        have w2 : chN P u j s * (4 - P 3) < 9223372036854775808 := by have := Nat.mul_le_mul hch (show 4 - P 3 ≤ 4 by omega); omega
        refine x_gI hsN' (by omega) (aJ_i (kr J'.2.2.2.2.1 j) (by omega) (by omega) (x_rc hsN' ?_))
        rw [sameJ, w s (by omega), i64_of (by omega), i64_mul, Nat.mul_comm]
        refine x_spreads hsN' J'.2.2.1 hw hs5 w1 (kr J'.2.2.2.2.1 (j + 1)) (fun t ht => (same1 t).trans (ws t ht)) (fun N3 f3 d3 => ?_)
        have J3 : Jx M ρ a b P u n Lc Ls c x' y' N3 ρ' := J'.on (k := k1) (by omega) (by rw [← ek1]; exact f3)
        obtain ⟨⟨rN3, hsN3⟩, -, -⟩ := id J3.2.1
        refine x_gI hsN3 (by omega) (aJ_i (kr J3.2.2.2.2.1 j) (by omega) (by omega) (x_rc hsN3 ?_))
        rw [f3.2 _ _ nej, sameJ, w s (by omega), i32_lit 4, i32_sub hle, i32_sub (show P 3 ≤ 4 by omega), i64_of (by omega), i64_mul, Nat.mul_comm]
        refine x_spreads hsN3 J3.2.2.1 hw (by omega) w2 (kr J3.2.2.2.2.1 (j + 1)) d3 (fun N4 f4 d4 => ?_)
        have J4 : Jx M ρ a b P u n Lc Ls c x' y' N4 ρ' := J3.on (k := k1) (by omega) (by rw [← ek1]; exact f4)
        unfold F_X12_chances_b120
        rw [i32_lit 1, i32_add]
        have o3 := ndO f3
        have o4 := ndO f4
        refine k' (_, _, _) N4 ⟨ρ', rfl, J4, ⟨by omega, by omega⟩, fun t ht => ?_, fun t ht => ?_⟩
        · rw [f4.2 _ _ nej, f3.2 _ _ nej, sameJ]
          exact w t ht
        · rw [d4 t ht, eD]
      · unfold F_X12_chances_b120
        rw [i32_lit 1, i32_add]
        refine k' (_, _, _) N ⟨ρN, rfl, J, nd, w, fun t ht => ?_⟩
        rw [ws t ht, eD, z, Nat.zero_mul, Nat.zero_mul, spN_0, spN_0]
    · obtain ⟨v1, x, y⟩ := v
      obtain ⟨ρN, q1, J, nd, w, ws⟩ := hI
      simp only at q1 J
      subst q1
      obtain ⟨⟨rN, hsN⟩, -, -⟩ := id J.2.1
      refine x_rc hsN (x_states hsN hk (leT (Nat.le_refl _) (by omega) ?_))
      have e2 : eR c (j + 1 + 1) = eR c j := by
        unfold eR
        by_cases e : j % 2 = 0
        · rw [if_pos e, if_pos (by omega)]
        · rw [if_neg e, if_neg (by omega)]
      have e3 : Int32.ofNat (P 0 - j) + (-1 : Int32) = Int32.ofNat (P 0 - (j + 1)) := by
        rw [show P 0 - j = P 0 - (j + 1) + 1 by omega]
        exact i32_dec _
      rw [e3]
      refine k (_, _, _, _, _) N ⟨ρN, rfl, e2.symm, rfl, J, nd, ws⟩
  · obtain ⟨v1, v2, v3, x, y⟩ := v
    obtain ⟨ρN, q1, q2, q3, J, nd, w⟩ := hI
    simp only at q1 q2 q3 J
    subst q1 q2 q3
    show F_X12_chances_b30 Q Lc Ls a b (Int32.ofNat d) (g + 1) (eR c (P 0 - d)) (eR c (P 0 - d + 1)) (Int32.ofNat (P 0 - (P 0 - d))) x y N
    exact leT (by omega) (by omega) (q N ρN c x y J nd w)
  · show mJ (sJ M2 (c 2) 0 (1 : Int64)) (c 2) t = Int64.ofNat (if t = 0 then 1 else 0)
    by_cases e : t = 0
    · rw [if_pos e, e, mJ_eq]; rfl
    · rw [if_neg e, mJ_ne (Or.inr e)]
      exact (w2 t ht).trans rfl
end XCH
