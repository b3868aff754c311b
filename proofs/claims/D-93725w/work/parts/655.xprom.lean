/-! the class's houses: promises -/
set_option maxRecDepth 100000
theorem bsN_val (P : Nat → Nat) (b : Int64) (mu : Bool) (s : Nat) (w : Nat → Int64) : ∀ n, (bsN P b mu s w n).1 = if (bsN P b mu s w n).2 = 0 then w s else b + w (s - (bsN P b mu s w n).2) := by
  intro n
  induction n with
  | zero => rfl
  | succ n ih =>
    unfold bsN
    split
    · show b + w (s - (n + 1)) = if n + 1 = 0 then _ else _
      rw [if_neg (by omega)]
    · exact ih
section XPROM
variable {M : gM} {a b : Nat} {r ρ P : Nat → Nat}
theorem x_chosen (h : HsX M ρ a r P) (C : CsA M ρ) (hw : Wf P) {d s : Nat} {mu : Bool} {Q : Int32 → gM → Prop} (hd : 1 ≤ d ∧ d ≤ 6) (hs5 : s < 5 ^ P 4) (hb : kd M b = some (true, .inr (.long, 875))) (q : Q (Int32.ofNat (bsN P (bx P d) mu s (fun t => bh P d t (fun t => mJ M b (125 * (d - 1) + t))) s).2) M) : F_X12_chosen M a (Int32.ofNat s) (Int32.ofNat d) b (if mu then 1 else 0) Q := by
  have hk := hw.2.2.2.2.1
  have h5 := p5_le hk.2
  refine x_rc h (x_putting (l := 0) h C hw hd hs5 (by omega) hb ?_)
  refine loopC (fun g v N => F_X12_chosen_b16 Q a (Int32.ofNat s) (Int32.ofNat d) b (if mu then 1 else 0) g v.1 v.2.1 v.2.2 N) (fun i => (Int32.ofNat (bsN P (bx P d) mu s (fun t => bh P d t (fun t => mJ M b (125 * (d - 1) + t))) i).2, (bsN P (bx P d) mu s (fun t => bh P d t (fun t => mJ M b (125 * (d - 1) + t))) i).1, Int32.ofNat (i + 1))) M s (fun i hi g k => ?_) (fun g => ltT (by omega) (by omega) q)
  show F_X12_chosen_b16 Q a (Int32.ofNat s) (Int32.ofNat d) b (if mu then 1 else 0) (g + 1) (Int32.ofNat (bsN P (bx P d) mu s (fun t => bh P d t (fun t => mJ M b (125 * (d - 1) + t))) i).2) (bsN P (bx P d) mu s (fun t => bh P d t (fun t => mJ M b (125 * (d - 1) + t))) i).1 (Int32.ofNat (i + 1)) M
  have k : F_X12_chosen_b16 Q a (Int32.ofNat s) (Int32.ofNat d) b (if mu then 1 else 0) g (Int32.ofNat (bsN P (bx P d) mu s (fun t => bh P d t (fun t => mJ M b (125 * (d - 1) + t))) (i + 1)).2) (bsN P (bx P d) mu s (fun t => bh P d t (fun t => mJ M b (125 * (d - 1) + t))) (i + 1)).1 (Int32.ofNat (i + 1 + 1)) M := k
  have es : bsN P (bx P d) mu s (fun t => bh P d t (fun t => mJ M b (125 * (d - 1) + t))) (i + 1) = if isLdb P s (i + 1) = true ∧ (bx P d + bh P d (s - (i + 1)) (fun t => mJ M b (125 * (d - 1) + t)) < (bsN P (bx P d) mu s (fun t => bh P d t (fun t => mJ M b (125 * (d - 1) + t))) i).1 ∨ (mu = true ∧ (bsN P (bx P d) mu s (fun t => bh P d t (fun t => mJ M b (125 * (d - 1) + t))) i).2 = 0)) then (bx P d + bh P d (s - (i + 1)) (fun t => mJ M b (125 * (d - 1) + t)), i + 1) else bsN P (bx P d) mu s (fun t => bh P d t (fun t => mJ M b (125 * (d - 1) + t))) i := rfl
  have hle := bsN_le P (bx P d) mu s (fun t => bh P d t (fun t => mJ M b (125 * (d - 1) + t))) i
  rw [es] at k
  generalize bsN P (bx P d) mu s (fun t => bh P d t (fun t => mJ M b (125 * (d - 1) + t))) i = D at k es hle ⊢
  have no : ¬ (isLdb P s (i + 1) = true ∧ (bx P d + bh P d (s - (i + 1)) (fun t => mJ M b (125 * (d - 1) + t)) < D.1 ∨ (mu = true ∧ D.2 = 0))) → F_X12_chosen_b72 Q (F_X12_chosen_b16 Q a (Int32.ofNat s) (Int32.ofNat d) b (if mu then 1 else 0) g) a (Int32.ofNat s) (Int32.ofNat d) b (if mu then 1 else 0) (Int32.ofNat D.2) D.1 (Int32.ofNat (i + 1)) M := fun z => by
    rw [if_neg z] at k
    unfold F_X12_chosen_b72
    rw [i32_lit 1, i32_add]
    exact k
  have yes : (isLdb P s (i + 1) = true ∧ (bx P d + bh P d (s - (i + 1)) (fun t => mJ M b (125 * (d - 1) + t)) < D.1 ∨ (mu = true ∧ D.2 = 0))) → F_X12_chosen_b64 Q (F_X12_chosen_b16 Q a (Int32.ofNat s) (Int32.ofNat d) b (if mu then 1 else 0) g) a (Int32.ofNat s) (Int32.ofNat d) b (if mu then 1 else 0) (Int32.ofNat (i + 1)) (bx P d + bh P d (s - (i + 1)) (fun t => mJ M b (125 * (d - 1) + t))) M := fun z => by
    rw [if_pos z] at k
    unfold F_X12_chosen_b64 F_X12_chosen_b72
    rw [i32_lit 1, i32_add]
    exact k
  refine ltF (by omega) (by omega) (x_rc h (x_isLoad h C hw (by omega) (by omega) (fun y => bT' n10 (x_rc h (x_putting h C hw hd hs5 (by omega) hb ?_))) (fun y => bF' rfl (no (fun z => y (isLdb_iff.mp z.1))))))
  have ep : ptF P d s (i + 1) (fun t => mJ M b (125 * (d - 1) + t)) = bx P d + bh P d (s - (i + 1)) (fun t => mJ M b (125 * (d - 1) + t)) := by unfold ptF; rw [if_neg (by omega)]
  rw [ep]
  refine ⟨fun z => yes ⟨isLdb_iff.mpr y, Or.inl z⟩, fun z => ?_⟩
  cases mu
  · exact bT rfl (no (fun y' => y'.2.elim z (fun y2 => by cases y2.1)))
  · exact bF (by decide) (eqS' (b := 0) (by omega) (by omega) (fun c => no (fun y' => y'.2.elim z (fun y2 => c y2.2))) (fun c => yes ⟨isLdb_iff.mpr y, Or.inr ⟨rfl, c⟩⟩))
theorem CT_s (P : Nat → Nat) (mu : Nat → Bool) (d s : Nat) : CT P mu (d + 1) s = wlF P (d + 1) s (bsN P (bx P (d + 1)) (mu (d + 1)) s (fun t => bh P (d + 1) t (CT P mu d)) s).2 (CT P mu d) := by
  show Int64.ofNat (P 3) * bh P (d + 1) s (CT P mu d) + Int64.ofNat (4 - P 3) * (bsN P (bx P (d + 1)) (mu (d + 1)) s (fun t => bh P (d + 1) t (CT P mu d)) s).1 = _
  rw [bsN_val]
  rfl
theorem bsN_congr {bb : Int64} {mu : Bool} {s : Nat} {f g : Nat → Int64} (hs : s < 5 ^ P 4) (h : ∀ t, t < 5 ^ P 4 → f t = g t) : ∀ n, bsN P bb mu s f n = bsN P bb mu s g n := by
  intro n
  induction n with
  | zero => show (f s, 0) = (g s, 0); rw [h s hs]
  | succ n ih =>
    unfold bsN
    rw [ih, h (s - (n + 1)) (by omega)]
theorem x_promised (h : HX M ρ a P) (C : CsA M ρ) {Lc Ls dy : Nat} {Q : Int64 → gM → Prop} (hL : rC M a ≤ Lc ∧ rS M a ≤ Ls) (hdy : dy ≤ 6) (q : ∀ M' ρ', Fx (SH a) ρ M ρ' M' → HX M' ρ' a P → (ndC M' a ≤ ndC M a ∧ ndS M' a ≤ ndS M a) → Q (CT P (fun e => e == dy) (P 0) 0) M') : F_X12_promised Lc Ls M a (Int32.ofNat dy) Q := by
  obtain ⟨⟨r, hs⟩, ca, hw⟩ := id h
  have hk := hw.2.2.2.2.1
  have h5 := p5_le hk.2
  have hd0 := hw.1
  refine ⟨rC M a, rS M a, ⟨by omega, by omega⟩, x_rc hs (x_makesRoom h (fun e => by unfold rC rS; rw [if_pos e, if_pos e]; omega) (fun M1 ρ1 c f1 h1 rm e10 e12 same => ?_))⟩
  obtain ⟨⟨r1, hs1⟩, ca1, -⟩ := id h1
  have f1H := f1.mono (fun _ _ z => z.sh)
  have C1 := f1H.csH C
  have T0 := (rm 0 (by omega)).2.2
  have k1 : kd M1 (c 0) = some (true, .inr (.long, 875)) := (rm 0 (by omega)).2.1
  have st : ∀ N, FmG (fun z _ => z = c 0) M1 N → Fx (SB a) ρ1 M1 ρ1 N ∧ HsX N ρ1 a r1 P ∧ CsA N ρ1 ∧ kd N (c 0) = some (true, .inr (.long, 875)) := fun N f => by
    have fx : Fx (SB a) ρ1 M1 ρ1 N := f.fx (fun z i e => by rw [e, T0]; exact ⟨13, by omega, by omega, rfl⟩)
    have fH := fx.mono (fun _ _ z => z.sh)
    exact ⟨fx, fH.hsH hs1, fH.csH C1, by rw [f.1.1]; exact k1⟩
  refine gN_i hs1.1.1 (rm 0 (by omega)).1 ?_
  generalize 0 + rC M a = xx
  generalize 0 + rS M a = yy
  refine loopV (fun g v N => F_X12_promised_b11 Q Lc Ls a (Int32.ofNat dy) (c 0) g v xx yy N) (fun i => Int32.ofNat i) (fun i N => FmG (fun z _ => z = c 0) M1 N ∧ ∀ t, t < i → mJ N (c 0) t = CT P (fun e => e == dy) 0 t) (5 ^ P 4) (fun i hi g N hI k => ?_) (fun g N hI => ?_) M1 ⟨FmG.rf, fun t ht => absurd ht (Nat.not_lt_zero _)⟩
  · obtain ⟨f, w⟩ := hI
    obtain ⟨fx, hsN, CN, kN⟩ := st N f
    have hm := sm4_le hw i
    refine x_rc hsN (x_states hsN hk (leF hi (by omega) (x_rc hsN (x_leaving hsN CN hk.2 (by omega) (uJ_i kN (by omega) (by omega) ?_)))))
    rw [i32_lit 1, i32_add, i64_of (by omega)]
    refine k _ ⟨f.tr (FmG.sJ rfl), fun t ht => ?_⟩
    by_cases e : t = i
    · rw [e]; exact mJ_eq
    · exact (mJ_ne (Or.inr e)).trans (w t (by omega))
  · obtain ⟨f, w⟩ := hI
    obtain ⟨fx, hsN, CN, kN⟩ := st N f
    refine x_rc hsN (x_states hsN hk (leT (Nat.le_refl _) (by omega) ?_))
    refine loopV (fun g v N => F_X12_promised_b36 Q Lc Ls a (Int32.ofNat dy) (c 0) g v xx yy N) (fun i => Int32.ofNat (i + 1)) (fun i N => FmG (fun z _ => z = c 0) M1 N ∧ ∀ k, k < i + 1 → ∀ t, t < 5 ^ P 4 → mJ N (c 0) (125 * k + t) = CT P (fun e => e == dy) k t) (P 0) (fun i hi g N hI k => ?_) (fun g N hI => ?_) N ⟨f, fun k hk' t ht => by rw [show k = 0 by omega, Nat.mul_zero, Nat.zero_add]; exact w t ht⟩
    · obtain ⟨f, w⟩ := hI
      obtain ⟨fx, hsN, CN, kN⟩ := st N f
      refine x_gI hsN (by omega) (ltF (by omega) (by omega) ?_)
      refine loopV (fun g' v N => F_X12_promised_b47 Q Lc Ls (F_X12_promised_b36 Q Lc Ls a (Int32.ofNat dy) (c 0) g) a (Int32.ofNat dy) (c 0) (Int32.ofNat (i + 1)) g' v xx yy N) (fun s => Int32.ofNat s) (fun s N => FmG (fun z _ => z = c 0) M1 N ∧ (∀ k, k < i + 1 → ∀ t, t < 5 ^ P 4 → mJ N (c 0) (125 * k + t) = CT P (fun e => e == dy) k t) ∧ ∀ t, t < s → mJ N (c 0) (125 * (i + 1) + t) = CT P (fun e => e == dy) (i + 1) t) (5 ^ P 4) (fun s hs5 g' N hI k' => ?_) (fun g' N hI => ?_) N ⟨f, w, fun t ht => absurd ht (Nat.not_lt_zero _)⟩
      · obtain ⟨f, w, w2⟩ := hI
        obtain ⟨fx, hsN, CN, kN⟩ := st N f
        have ew : ∀ t, t < 5 ^ P 4 → mJ N (c 0) (125 * (i + 1 - 1) + t) = CT P (fun e => e == dy) i t := fun t ht => by rw [Nat.add_sub_cancel]; exact w i (by omega) t ht
        have go : ∀ mu : Bool, mu = (i + 1 == dy) → F_X12_promised_b82 Q Lc Ls (F_X12_promised_b36 Q Lc Ls a (Int32.ofNat dy) (c 0) g) (F_X12_promised_b47 Q Lc Ls (F_X12_promised_b36 Q Lc Ls a (Int32.ofNat dy) (c 0) g) a (Int32.ofNat dy) (c 0) (Int32.ofNat (i + 1)) g') a (Int32.ofNat dy) (c 0) (Int32.ofNat (i + 1)) (Int32.ofNat s) (c 0) (((125 : Int32) * Int32.ofNat (i + 1)) + Int32.ofNat s) a (Int32.ofNat s) a (Int32.ofNat s) (Int32.ofNat (i + 1)) (c 0) (if mu then 1 else 0) xx yy N := by
          intro mu hmu
          have hle := bsN_le P (bx P (i + 1)) mu s (fun t => bh P (i + 1) t (fun t => mJ N (c 0) (125 * (i + 1 - 1) + t))) s
          refine x_rc hsN (x_chosen hsN CN hw ⟨by omega, by omega⟩ hs5 kN (x_rc hsN (x_sending hsN CN hw ⟨by omega, by omega⟩ hs5 hle kN ?_)))
          have ev : wlF P (i + 1) s (bsN P (bx P (i + 1)) mu s (fun t => bh P (i + 1) t (fun t => mJ N (c 0) (125 * (i + 1 - 1) + t))) s).2 (fun t => mJ N (c 0) (125 * (i + 1 - 1) + t)) = CT P (fun e => e == dy) (i + 1) s := by
            rw [CT_s, wlF_congr hk.2 hs5 ew, bsN_congr hs5 (fun t ht => bh_congr hk.2 ht ew), hmu]
          rw [ev, i32_lit 125, i32_mul, i32_add]
          refine uJ_i kN (by omega) (by omega) ?_
          rw [i32_lit 1, i32_add]
          refine k' _ ⟨f.tr (FmG.sJ rfl), fun k hk' t ht => ?_, fun t ht => ?_⟩
          · rw [mJ_ne (Or.inr (by omega))]
            exact w k hk' t ht
          · by_cases e : t = s
            · rw [e]; exact mJ_eq
            · rw [mJ_ne (Or.inr (by omega))]
              exact w2 t (by omega)
        refine x_rc hsN (x_states hsN hk (leF hs5 (by omega) (eqS' (by omega) (by omega) (fun c1 => go false ?_) (fun c1 => go true ?_))))
        · exact (beq_eq_false_iff_ne.mpr c1).symm
        · exact (beq_iff_eq.mpr c1).symm
      · obtain ⟨f, w, w2⟩ := hI
        obtain ⟨fx, hsN, CN, kN⟩ := st N f
        refine x_rc hsN (x_states hsN hk (leT (Nat.le_refl _) (by omega) ?_))
        rw [i32_lit 1, i32_add]
        refine k N ⟨f, fun k hk' t ht => ?_⟩
        by_cases e : k = i + 1
        · rw [e]; exact w2 t ht
        · exact w k (by omega) t ht
    · obtain ⟨f, w⟩ := hI
      obtain ⟨fx, hsN, CN, kN⟩ := st N f
      refine x_gI hsN (by omega) (ltT (by omega) (by omega) (x_gI hsN (by omega) ?_))
      rw [i32_lit 125, i32_mul]
      refine aJ_i kN (by omega) (by omega) ?_
      have e0 := w (P 0) (by omega) 0 (p5_pos _)
      rw [Nat.add_zero] at e0
      rw [e0]
      refine q N ρ1 (f1H.tr (fx.mono (fun _ _ z => z.sh))) (h1.sb fx) ?_
      have e13 : mR M1 a 13 ≠ none := by rw [(rm 0 (by omega)).1]; exact fun z => by cases z
      unfold ndC ndS
      rw [f.1.2.1, if_neg e13, if_neg e13, e10]
      constructor <;> omega
end XPROM
