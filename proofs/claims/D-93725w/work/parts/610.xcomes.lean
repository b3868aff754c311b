/-! the class's houses: what comes behind a day -/
set_option maxRecDepth 100000
theorem bt_m1 : ∀ x, x < 8 → ∀ i, i < 3 → ((((Int32.ofNat x >>> (Int32.ofNat i &&& 31)) &&& (1 : Int32)) = 1) = (bt x i = true)) := by
  intro x hx i hi
  have h : ∀ x, x < 8 → ∀ i, i < 3 → decide (((Int32.ofNat x >>> (Int32.ofNat i &&& 31)) &&& (1 : Int32)) = 1) = bt x i := by decide
  have := h x hx i hi
  cases e : bt x i
  · rw [e] at this
    exact propext ⟨fun z => absurd z (of_decide_eq_false this), fun z => by cases z⟩
  · rw [e] at this
    exact propext ⟨fun _ => rfl, fun _ => of_decide_eq_true this⟩
def cmN (P : Nat → Nat) (d s : Nat) (f : Nat → Int64) : Nat → Int64
  | 0 => 0
  | c + 1 => cmN P d s f c + Int64.ofNat (wtN P c (P 4)) * (Int64.ofNat (rfN P c s (P 4)) * Int64.ofNat (scl P (d - 1)) + f (thN P c s (P 4)))
theorem bh_cm (P : Nat → Nat) (d s : Nat) (f : Nat → Int64) : ∀ c, bhN P d s f c = Int64.ofNat (sm P 2 s) * Int64.ofNat (4 ^ P 4) * Int64.ofNat (scl P (d - 1)) + cmN P d s f c := by
  intro c
  induction c with
  | zero => rw [show cmN P d s f 0 = 0 from rfl, i64_0add]; rfl
  | succ c ih =>
    show bhN P d s f c + _ = _ + (cmN P d s f c + _)
    rw [ih]
    grind -lia
section XCOMES
variable {M : gM} {a b : Nat} {r ρ P : Nat → Nat}
theorem x_comes (h : HsX M ρ a r P) (C : CsA M ρ) (hw : Wf P) {d s : Nat} {Q : Int64 → gM → Prop} (hd : 1 ≤ d ∧ d ≤ 6) (hs : s < 5 ^ P 4) (hb : kd M b = some (true, .inr (.long, 875))) (q : Q (cmN P d s (fun t => mJ M b (125 * (d - 1) + t)) (2 ^ P 4)) M) : F_X12_comes M a (Int32.ofNat s) b (Int32.ofNat (125 * (d - 1))) (Int64.ofNat (scl P (d - 1))) Q := by
  have hk := hw.2.2.2.2.1
  have h5 := p5_le hk.2
  have h2 := p2_le hk.2
  have hp4 := p4_le hk.2
  refine loopC (fun g v N => F_X12_comes_b6 Q a (Int32.ofNat s) b (Int32.ofNat (125 * (d - 1))) (Int64.ofNat (scl P (d - 1))) g v.1 v.2 N) (fun c => (cmN P d s (fun t => mJ M b (125 * (d - 1) + t)) c, Int32.ofNat c)) M (2 ^ P 4) (fun c hc g k => ?_) (fun g => ?_)
  · show F_X12_comes_b6 Q a (Int32.ofNat s) b (Int32.ofNat (125 * (d - 1))) (Int64.ofNat (scl P (d - 1))) (g + 1) (cmN P d s (fun t => mJ M b (125 * (d - 1) + t)) c) (Int32.ofNat c) M
    refine x_gI h (by omega) ?_
    rw [sh_m _ (by omega)]
    refine leF hc (by omega) ?_
    have hth := th_lt (P := P) hk.2 (show c < 8 by omega) hs
    have hwt := Nat.le_trans (wtN_le hw c (P 4) (Nat.le_refl _)) hp4
    have hrf := rfN_le hw c s (P 4) (Nat.le_refl _)
    refine loopC (fun g' v N => F_X12_comes_b29 Q (F_X12_comes_b6 Q a (Int32.ofNat s) b (Int32.ofNat (125 * (d - 1))) (Int64.ofNat (scl P (d - 1))) g) a (Int32.ofNat s) b (Int32.ofNat (125 * (d - 1))) (Int64.ofNat (scl P (d - 1))) (cmN P d s (fun t => mJ M b (125 * (d - 1) + t)) c) (Int32.ofNat c) g' v.1 v.2.1 v.2.2.1 v.2.2.2 N) (fun i => (Int64.ofNat (wtN P c i), Int32.ofNat (thN P c s i), Int32.ofNat (rfN P c s i), Int32.ofNat i)) M (P 4) (fun i hi g' k' => ?_) (fun g' => ?_)
    · show F_X12_comes_b29 Q (F_X12_comes_b6 Q a (Int32.ofNat s) b (Int32.ofNat (125 * (d - 1))) (Int64.ofNat (scl P (d - 1))) g) a (Int32.ofNat s) b (Int32.ofNat (125 * (d - 1))) (Int64.ofNat (scl P (d - 1))) (cmN P d s (fun t => mJ M b (125 * (d - 1) + t)) c) (Int32.ofNat c) (g' + 1) (Int64.ofNat (wtN P c i)) (Int32.ofNat (thN P c s i)) (Int32.ofNat (rfN P c s i)) (Int32.ofNat i) M
      have hP6 := (hw.2.2.2.2.2 i (by omega)).2.1
      have hdg := dg_le s i
      -- the end of a turn
      have go : ∀ (v t f : Nat), v = (if bt c i then P (6 + 5 * i) else 4 - P (6 + 5 * i)) → t = thN P c s (i + 1) → f = rfN P c s (i + 1) → F_X12_comes_b133 Q (F_X12_comes_b6 Q a (Int32.ofNat s) b (Int32.ofNat (125 * (d - 1))) (Int64.ofNat (scl P (d - 1))) g) (F_X12_comes_b29 Q (F_X12_comes_b6 Q a (Int32.ofNat s) b (Int32.ofNat (125 * (d - 1))) (Int64.ofNat (scl P (d - 1))) g) a (Int32.ofNat s) b (Int32.ofNat (125 * (d - 1))) (Int64.ofNat (scl P (d - 1))) (cmN P d s (fun t => mJ M b (125 * (d - 1) + t)) c) (Int32.ofNat c) g') a (Int32.ofNat s) b (Int32.ofNat (125 * (d - 1))) (Int64.ofNat (scl P (d - 1))) (cmN P d s (fun t => mJ M b (125 * (d - 1) + t)) c) (Int32.ofNat c) (Int64.ofNat (wtN P c i) * Int64.ofNat v) (Int32.ofNat t) (Int32.ofNat f) (Int32.ofNat i) M := by
        intro v t f hv ht hf
        unfold F_X12_comes_b133
        rw [i64_mul, hv, ht, hf, i32_lit 1, i32_add]
        exact k'
      have et : thN P c s (i + 1) = thN P c s i + (if bt c i = true ∧ dg s i ≠ 4 then 5 ^ i else 0) := rfl
      have ef : rfN P c s (i + 1) = rfN P c s i + (if bt c i = true ∧ dg s i = 4 then P (8 + 5 * i) else 0) := rfl
      refine x_gI h (by omega) (leF hi (by omega) ?_)
      rw [bt_m1 c (by omega) i (by omega)]
      refine ⟨fun cb => bT rfl (x_row (w := 1) h rfl (by omega) hk.2 hi (bT rfl (bT rfl ?_))), fun cb => bF n10 (x_row (w := 1) h rfl (by omega) hk.2 hi (bF n10 (x_standing C (by omega) (by omega) (eqS' (b := 4) (by omega) (by omega) (fun c4 => bF n10 (x_place C (by omega) ?_)) (fun c4 => x_row (w := 3) h rfl (by omega) hk.2 hi ?_)))))⟩
      · rw [show 5 + 5 * i + 1 = 6 + 5 * i by omega, i32_lit 4, i32_sub hP6, i64_of (by omega)]
        exact go _ _ _ (by rw [if_neg cb]) (by rw [et, if_neg (fun z => cb z.1), Nat.add_zero]) (by rw [ef, if_neg (fun z => cb z.1), Nat.add_zero])
      · rw [show 5 + 5 * i + 1 = 6 + 5 * i by omega, i64_of (by omega), i32_add]
        exact go _ _ _ (by rw [if_pos cb]) (by rw [et, if_pos ⟨cb, c4⟩]) (by rw [ef, if_neg (fun z => c4 z.2), Nat.add_zero])
      · rw [show 5 + 5 * i + 1 = 6 + 5 * i by omega, show 5 + 5 * i + 3 = 8 + 5 * i by omega, i64_of (by omega), i32_add]
        exact go _ _ _ (by rw [if_pos cb]) (by rw [et, if_neg (fun z => z.2 c4), Nat.add_zero]) (by rw [ef, if_pos ⟨cb, c4⟩])
    · show F_X12_comes_b29 Q (F_X12_comes_b6 Q a (Int32.ofNat s) b (Int32.ofNat (125 * (d - 1))) (Int64.ofNat (scl P (d - 1))) g) a (Int32.ofNat s) b (Int32.ofNat (125 * (d - 1))) (Int64.ofNat (scl P (d - 1))) (cmN P d s (fun t => mJ M b (125 * (d - 1) + t)) c) (Int32.ofNat c) (g' + 1) (Int64.ofNat (wtN P c (P 4))) (Int32.ofNat (thN P c s (P 4))) (Int32.ofNat (rfN P c s (P 4))) (Int32.ofNat (P 4)) M
      refine x_gI h (by omega) (leT (Nat.le_refl _) (by omega) ?_)
      rw [i64_lit 0, i64_le (by omega) (by omega)]
      refine ⟨fun z => ?_, fun z => ?_⟩
      · unfold F_X12_comes_b167
        rw [i32_lit 1, i32_add]
        have e9 : cmN P d s (fun t => mJ M b (125 * (d - 1) + t)) (c + 1) = cmN P d s (fun t => mJ M b (125 * (d - 1) + t)) c := by
          show _ + Int64.ofNat (wtN P c (P 4)) * _ = _
          rw [show wtN P c (P 4) = 0 by omega, i64_0mul, i64_0add]
        rw [← e9]
        exact k
      · rw [i32_add]
        refine aJ_i hb (by omega) (by omega) ?_
        unfold F_X12_comes_b167
        rw [i32_lit 1, i32_add, i64_of (by omega)]
        exact k
  · refine x_gI h (by omega) ?_
    rw [sh_m _ (by omega)]
    exact leT (Nat.le_refl _) (by omega) q
/-- a day with a load put in -/
def ptF (P : Nat → Nat) (d s l : Nat) (f : Nat → Int64) : Int64 := if l = 0 then bh P d s f else bx P d + bh P d (s - l) f
theorem x_putting (h : HsX M ρ a r P) (C : CsA M ρ) (hw : Wf P) {d s l : Nat} {Q : Int64 → gM → Prop} (hd : 1 ≤ d ∧ d ≤ 6) (hs : s < 5 ^ P 4) (hl : l ≤ s) (hb : kd M b = some (true, .inr (.long, 875))) (q : Q (ptF P d s l (fun t => mJ M b (125 * (d - 1) + t))) M) : F_X12_putting M a (Int32.ofNat s) (Int32.ofNat l) (Int32.ofNat d) b Q := by
  have hk := hw.2.2.2.2.1
  have h5 := p5_le hk.2
  have hm := sm2_le hw (s - l)
  have hb1 := hw.2.1
  have e1 : Int32.ofNat d - (1 : Int32) = Int32.ofNat (d - 1) := by rw [i32_lit 1, i32_sub hd.1]
  have fin : ∀ (t : Nat), t ≤ 99 → (Int64.ofNat (t + sm P 2 (s - l)) * (Int64.ofNat (scl P (d - 1)) * Int64.ofNat (4 ^ P 4)) + cmN P d (s - l) (fun t => mJ M b (125 * (d - 1) + t)) (2 ^ P 4) = ptF P d s l (fun t => mJ M b (125 * (d - 1) + t))) → F_X12_putting_b26 Q a (Int32.ofNat d) b (Int32.ofNat (s - l)) (Int64.ofNat (scl P (d - 1))) (Int32.ofNat t) M := by
    intro t ht et
    refine x_rc h (x_holding h C hk.2 (by omega) (x_gI h (by omega) (x_rc h ?_)))
    rw [e1, i32_lit 125, i32_mul]
    refine x_comes h C hw hd (by omega) hb ?_
    rw [i32_lit 2, i32_mul, shl_mul _ (by omega), p2_4, i32_add, i64_of (by omega), et]
    exact q
  refine x_rc h ?_
  rw [e1]
  refine x_scale h hk.2 (by omega) ?_
  rw [i32_sub hl]
  have ebh : ∀ s' f, bh P d s' f = Int64.ofNat (sm P 2 s') * Int64.ofNat (4 ^ P 4) * Int64.ofNat (scl P (d - 1)) + cmN P d s' f (2 ^ P 4) := fun s' f => bh_cm P d s' f _
  refine eqS' (b := 0) (by omega) (by omega) (fun c => x_gI h (by omega) (fin _ hb1 ?_)) (fun c => fin 0 (by omega) ?_)
  · unfold ptF bx
    rw [if_neg c, ebh, ← i64_add]
    grind -lia
  · unfold ptF
    rw [if_pos c, c, Nat.sub_zero, ebh, Nat.zero_add]
    grind -lia
theorem x_sending (h : HsX M ρ a r P) (C : CsA M ρ) (hw : Wf P) {d s l : Nat} {Q : Int64 → gM → Prop} (hd : 1 ≤ d ∧ d ≤ 6) (hs : s < 5 ^ P 4) (hl : l ≤ s) (hb : kd M b = some (true, .inr (.long, 875))) (q : Q (wlF P d s l (fun t => mJ M b (125 * (d - 1) + t))) M) : F_X12_sending M a (Int32.ofNat s) (Int32.ofNat l) (Int32.ofNat d) b Q := by
  have hk := hw.2.2.2.2.1
  have h5 := p5_le hk.2
  have hf3 := hw.2.2.2.1
  refine x_rc h (x_putting (l := 0) h C hw hd hs (by omega) hb (eqS' (b := 0) (by omega) (by omega) (fun c => ?_) (fun c => ?_)))
  · refine x_gI h (by omega) (x_gI h (by omega) (x_rc h (x_putting h C hw hd hs hl hb ?_)))
    rw [i32_lit 4, i32_sub (by omega), i64_of (by omega), i64_of (by omega)]
    unfold ptF
    unfold wlF at q
    rw [if_pos rfl, if_neg c]
    rw [if_neg c] at q
    exact q
  · have e : (4 : Int64) * ptF P d s 0 (fun t => mJ M b (125 * (d - 1) + t)) = wlF P d s l (fun t => mJ M b (125 * (d - 1) + t)) := by
      unfold ptF wlF
      rw [if_pos rfl, if_pos c]
      have : (4 : Int64) = Int64.ofNat (P 3) + Int64.ofNat (4 - P 3) := by rw [i64_add, show P 3 + (4 - P 3) = 4 by omega]; rfl
      rw [this]
      grind -lia
    rw [e]
    exact q
end XCOMES
