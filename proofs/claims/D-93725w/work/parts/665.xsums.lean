/-! the class's houses: means of all days -/
set_option maxRecDepth 100000
section XSUMS
variable {M : gM} {a b : Nat} {ρ P : Nat → Nat} {u : Ru} {n : Nat}
theorem rw_le (M : gM) (a : Nat) (u : Ru) : rC M a + wC u M a ≤ 10 ∧ rS M a + wS u M a ≤ 4250 := by
  have := nd_le M a
  unfold rC rS wC wS
  constructor
  · split <;> split <;> omega
  · split <;> split <;> omega
theorem x_sums (h : HX M ρ a P) (C : CsA M ρ) (hr : RuX M ρ b u n) (hwu : WfR u) {Lc Ls : Nat} {so : Option Nat} {Q : Int64 → gM → Prop} (hso : ∀ i, so = some i → i < 3) (hL : 96 ≤ Lc ∧ 43500 ≤ Ls) (q : ∀ M' ρ', Fx (SH a) ρ M ρ' M' → HX M' ρ' a P → Q (mvT P u so (P 0)) M') : F_X12_sums Lc Ls M a b (oI so) Q := by
  obtain ⟨⟨r, hs⟩, ca, hw⟩ := id h
  have hk := hw.2.2.2.2.1
  have h5 := p5_le hk.2
  have hp4 := p4_le hk.2
  have hd0 := hw.1
  have hf3 := hw.2.2.2.1
  refine x_gI hs (by omega) ?_
  refine loopR (fun g (v : Int64 × Int32 × Nat × Nat) N => F_X12_sums_b8 Q Lc Ls a b (oI so) g v.1 v.2.1 v.2.2.1 v.2.2.2 N) (fun j v N => ∃ ρN, v.1 = mvT P u so j ∧ v.2.1 = Int32.ofNat (P 0 - j) ∧ Fx (SH a) ρ M ρN N ∧ HX N ρN a P ∧ CsA N ρN ∧ RuX N ρN b u n ∧ v.2.2.1 ≤ 16 * j ∧ v.2.2.2 ≤ 7250 * j) (P 0) (fun j hj g v N hI k => ?_) (fun g v N hI => ?_) ((0 : Int64), Int32.ofNat (P 0), 0, 0) M ⟨ρ, rfl, rfl, Fx.rf, h, C, hr, Nat.le_refl _, Nat.le_refl _⟩
  · obtain ⟨v1, v2, x, y⟩ := v
    obtain ⟨ρN, q1, q2, fN, hN, CN, rN, bx1, by1⟩ := hI
    simp only at q1 q2 bx1 by1
    subst q1 q2
    obtain ⟨⟨rr, hsN⟩, -, -⟩ := id hN
    show F_X12_sums_b8 Q Lc Ls a b (oI so) (g + 1) (mvT P u so j) (Int32.ofNat (P 0 - j)) x y N
    refine leF (b := 0) (by omega) (by omega) ⟨10, 4250, ⟨by omega, by omega⟩, x_rc hsN (x_chances (d := P 0 - j) hN CN rN hwu (rw_le N a u) (by omega) (fun N1 ρ1 c x' y' J' nd w => ?_))⟩
    rw [show P 0 - (P 0 - j) = j by omega] at w ⊢
    obtain ⟨k0, hk0, ek0⟩ := eR_or c j
    have nl := nd_le N1 a
    have wl : wC u N1 a ≤ 6 ∧ wS u N1 a ≤ 3000 := by unfold wC wS; constructor <;> (split <;> omega)
    have J : Jx M ρ a b P u n (16 * (j + 1)) (7250 * (j + 1)) c (x + 10) (y + 4250) N1 ρ1 := ⟨fN.tr J'.1, J'.2.1, J'.2.2.1, J'.2.2.2.1, J'.2.2.2.2.1, by omega, by omega⟩
    have kr : ∀ {N : gM} {ρN : Nat → Nat}, RmA N ρN a c → kd N (eR c j) = some (true, .inr (.long, 125)) := fun z => by
      rw [ek0]
      have := (z k0 (by omega)).2.1
      rw [if_neg (by omega)] at this
      exact this
    refine loopR (fun g' (v : Int64 × Int32 × Nat × Nat) N => F_X12_sums_b28 Q Lc Ls (F_X12_sums_b8 Q Lc Ls a b (oI so) g) a b (oI so) (mvT P u so j) (Int32.ofNat (P 0 - j)) (eR c j) g' v.1 v.2.1 v.2.2.1 v.2.2.2 N) (fun s v N => ∃ ρN, v.1 = mvS P u so (P 0 - j) s ∧ v.2.1 = Int32.ofNat s ∧ Jx M ρ a b P u n (16 * (j + 1)) (7250 * (j + 1)) c v.2.2.1 v.2.2.2 N ρN ∧ ∀ t, t < 125 → mJ N (eR c j) t = Int64.ofNat (chN P u j t)) (5 ^ P 4) (fun s hs5 g' v N hI k' => ?_) (fun g' v N hI => ?_) ((0 : Int64), (0 : Int32), x + 10, y + 4250) N1 ⟨ρ1, rfl, rfl, J, w⟩
    · obtain ⟨v1, v2, x, y⟩ := v
      obtain ⟨ρN, q1, q2, J, w⟩ := hI
      simp only at q1 q2 J
      subst q1 q2
      obtain ⟨⟨rN, hsN⟩, -, -⟩ := id J.2.1
      have hch := chN_lt hw (u := u) (j := j) (t := s) (by omega) hs5
      have hle := ldF_le hw (u := u) (d := P 0 - j) (s := s) (by omega)
      have hvl := vl_le P u so (P 0 - j) s hf3
      have p24 : (4 : Nat) ^ 24 = 281474976710656 := by decide
      have es := mvS_s P u so (P 0 - j) s
      rw [show P 0 - (P 0 - j) = j by omega] at es
      -- the end of a state
      have fin : ∀ (l x' y' : Nat) (N : gM) (ρN : Nat → Nat), Jx M ρ a b P u n (16 * (j + 1)) (7250 * (j + 1)) c x' y' N ρN → (∀ t, t < 125 → mJ N (eR c j) t = Int64.ofNat (chN P u j t)) → l ≤ s → (chN P u j s ≠ 0 → l = ldF P u (P 0 - j) s) → F_X12_sums_b62 Q Lc Ls (F_X12_sums_b8 Q Lc Ls a b (oI so) g) (F_X12_sums_b28 Q Lc Ls (F_X12_sums_b8 Q Lc Ls a b (oI so) g) a b (oI so) (mvT P u so j) (Int32.ofNat (P 0 - j)) (eR c j) g') a b (oI so) (mvT P u so j) (Int32.ofNat (P 0 - j)) (eR c j) (mvS P u so (P 0 - j) s) (Int32.ofNat s) (Int32.ofNat l) x' y' N := by
        intro l x' y' N ρN J w hl hll
        obtain ⟨⟨rN, hsN⟩, -, -⟩ := id J.2.1
        have b110 : ∀ (A B : Nat), A ≤ 4 → B ≤ 4 → (chN P u j s ≠ 0 → P 3 * A + (4 - P 3) * B = vlF P u so (P 0 - j) s) → F_X12_sums_b110 Q Lc Ls (F_X12_sums_b8 Q Lc Ls a b (oI so) g) (F_X12_sums_b28 Q Lc Ls (F_X12_sums_b8 Q Lc Ls a b (oI so) g) a b (oI so) (mvT P u so j) (Int32.ofNat (P 0 - j)) (eR c j) g') a b (oI so) (mvT P u so j) (Int32.ofNat (P 0 - j)) (eR c j) (mvS P u so (P 0 - j) s) (Int32.ofNat s) (Int64.ofNat A) (Int64.ofNat B) x' y' N := by
          intro A B hA hB hv
          refine aJ_i (kr J.2.2.2.2.1) (by omega) (by omega) (x_gI hsN (by omega) (x_gI hsN (by omega) ?_))
          rw [w s (by omega), i32_lit 4, i32_sub (show P 3 ≤ 4 by omega), i64_of (by omega), i64_of (by omega), i64_mul, i64_mul, i64_add, i32_lit 1, i32_add]
          refine k' (_, _, _, _) N ⟨ρN, ?_, rfl, J, w⟩
          show _ = mvS P u so (P 0 - j) (s + 1)
          rw [es]
          by_cases e : chN P u j s = 0
          · rw [e, i64_0mul, i64_0mul]
          · rw [hv e]
        cases so with
        | none =>
          refine bF' rfl (bF' rfl (eqS' (b := 0) (by omega) (by omega) (fun c1 => b110 0 1 (by omega) (by omega) (fun e => ?_)) (fun c1 => b110 0 0 (by omega) (by omega) (fun e => ?_))))
          · rw [vl_none, if_neg (by rw [← hll e]; exact c1)]; omega
          · rw [vl_none, if_pos (by rw [← hll e]; exact c1)]; omega
        | some i =>
          have hi := hso i rfl
          have d1 := dg_le s i
          have d2 := dg_le (s - l) i
          refine bT' (oI_ne (by omega)) (x_standing J.2.2.1 (by omega) hi ?_)
          rw [i64_of (by omega)]
          refine bT' (oI_ne (by omega)) ?_
          rw [i32_sub hl]
          refine x_standing J.2.2.1 (by omega) hi ?_
          rw [i64_of (by omega)]
          exact b110 _ _ d1 d2 (fun e => by rw [vl_some, hll e])
      refine x_rc hsN (x_states hsN hk (leF hs5 (by omega) (aJ_i (kr J.2.2.2.2.1) (by omega) (by omega) ?_)))
      rw [w s (by omega), i64_lit 0, i64_eq (by omega) (by omega)]
      refine ⟨fun z => ?_, fun z => fin 0 x y N ρN J w (by omega) (fun e => absurd z e)⟩
      obtain ⟨c9, s10, hb, hF⟩ := J.load (Q := fun v x' y' N' => F_X12_sums_b62 Q Lc Ls (F_X12_sums_b8 Q Lc Ls a b (oI so) g) (F_X12_sums_b28 Q Lc Ls (F_X12_sums_b8 Q Lc Ls a b (oI so) g) a b (oI so) (mvT P u so j) (Int32.ofNat (P 0 - j)) (eR c j) g') a b (oI so) (mvT P u so j) (Int32.ofNat (P 0 - j)) (eR c j) (mvS P u so (P 0 - j) s) (Int32.ofNat s) v x' y' N') hwu (d := P 0 - j) (s := s) (by omega) hs5 (fun N' ρ' x' y' J' f' nd' => fin _ x' y' N' ρ' J' (fun t ht => by
        have : mJ N' (eR c j) t = mJ N (eR c j) t := by rw [ek0]; exact SF.rows J.2.2.2.2.1 f' (by omega) t
        rw [this]
        exact w t ht) hle (fun _ => rfl))
      exact ⟨c9, s10, ⟨by show x + c9 ≤ Lc; omega, by show y + s10 ≤ Ls; omega⟩, hF⟩
    · obtain ⟨v1, v2, x, y⟩ := v
      obtain ⟨ρN, q1, q2, J, w⟩ := hI
      simp only at q1 q2 J
      subst q1 q2
      obtain ⟨⟨rN, hsN⟩, -, -⟩ := id J.2.1
      refine x_rc hsN (x_states hsN hk (leT (Nat.le_refl _) (by omega) (x_gI hsN (by omega) (x_rc hsN ?_))))
      rw [i32_lit 1, i32_sub (show 1 ≤ P 0 - j by omega)]
      refine x_scale hsN hk.2 (by omega) ?_
      have e3 : Int32.ofNat (P 0 - j) + -Int32.ofNat 1 = Int32.ofNat (P 0 - (j + 1)) := by
        rw [show P 0 - j = P 0 - (j + 1) + 1 by omega]
        exact i32_dec _
      rw [e3, i32_lit 2, i32_mul, shl_mul _ (by omega), p2_4]
      refine k (_, _, _, _) N ⟨ρN, ?_, rfl, J.1, J.2.1, J.2.2.1, J.2.2.2.1, by have := J.2.2.2.2.2.1; show x ≤ _; omega, by have := J.2.2.2.2.2.2; show y ≤ _; omega⟩
      exact (mvT_s P u so j).symm
  · obtain ⟨v1, v2, x, y⟩ := v
    obtain ⟨ρN, q1, q2, fN, hN, CN, rN, bx1, by1⟩ := hI
    simp only at q1 q2 bx1 by1
    subst q1 q2
    show F_X12_sums_b8 Q Lc Ls a b (oI so) (g + 1) (mvT P u so (P 0)) (Int32.ofNat (P 0 - P 0)) x y N
    exact leT (b := 0) (by omega) (by omega) (q N ρN fN hN)
end XSUMS
