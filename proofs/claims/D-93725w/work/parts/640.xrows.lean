/-! the class's rows and rules -/
set_option maxRecDepth 100000
def tyF (so : Nat) : FieldType := match so with
  | 0 => .byte
  | 1 => .short
  | 2 => .int
  | 3 => .long
  | _ => .boolean
/-- a row of a sort -/
def RwX (M : gM) (c so n : Nat) (f : Nat → Int64) : Prop := kd M c = some (true, .inr (tyF so, n)) ∧ (so ≤ 4 ∧ n ≤ 125) ∧ ∀ i, i < n → (so = 3 → mJ M c i = f i) ∧ (so ≠ 3 → (mI M c i).toInt64 = f i) ∧ fits (tyF so) (gv (tyF so) (mI M c i) (mJ M c i) none) = true
theorem vp_dec {x : Int32} {n : Nat} : vp_in x n ↔ ∃ i, dec n x = some i := by
  unfold vp_in
  constructor
  · intro h
    have h1 : ¬ x < 0 := fun z => h (Or.inl z)
    have h2 : ¬ n ≤ x.toNatClampNeg := fun z => h (Or.inr z)
    obtain ⟨i, hi, e⟩ := i32_of h1
    rw [e, i32_nat hi] at h2
    exact ⟨i, by rw [e]; exact dec_of (by omega) hi⟩
  · rintro ⟨i, e⟩
    have d := dec_some e
    rw [d.2.1, i32_nat d.2.2]
    rintro (z | z)
    · exact i32_lt0 d.2.2 z
    · omega
section XROWS
variable {M : gM} {c so n : Nat} {f : Nat → Int64}
theorem iO_y {ty : FieldType} {nm : String} {κ : Int32 → Prop} (h : kd M c = some (true, .inr (ty, n))) (ok : ty = .int ∨ ty = .long ∨ ty = .byte ∨ ty = .short ∨ ty = .boolean) (hm : ("[" ++ ty.toString, nm) ∈ gYP) (q : κ 1) : iO M c nm κ := ⟨_, h, ok, Or.inl ⟨hm, q⟩⟩
theorem iO_n {ty : FieldType} {nm : String} {κ : Int32 → Prop} (h : kd M c = some (true, .inr (ty, n))) (ok : ty = .int ∨ ty = .long ∨ ty = .byte ∨ ty = .short ∨ ty = .boolean) (hm : ("[" ++ ty.toString, nm) ∈ gNP) (q : κ 0) : iO M c nm κ := ⟨_, h, ok, Or.inr ⟨hm, q⟩⟩
theorem cY_y {ty : FieldType} {nm : String} (h : kd M c = some (true, .inr (ty, n))) (ok : ty = .int ∨ ty = .long ∨ ty = .byte ∨ ty = .short ∨ ty = .boolean) (hm : ("[" ++ ty.toString, nm) ∈ gYP) : cY M c nm := ⟨_, h, ok, hm⟩
theorem x_sortOf (h : kd M c = some (true, .inr (tyF so, n))) (hso : so ≤ 4) {Q : Int32 → gM → Prop} (q : Q (Int32.ofNat so) M) : F_X0_sortOf M c Q := by
  rcases (by omega : so = 0 ∨ so = 1 ∨ so = 2 ∨ so = 3 ∨ so = 4) with rfl | rfl | rfl | rfl | rfl
  · exact iO_y (ty := .byte) h (by simp) (by decide +kernel) (bF n10 q)
  · exact iO_n (ty := .short) h (by simp) (by decide +kernel) (bT rfl (iO_y (ty := .short) h (by simp) (by decide +kernel) (bF n10 q)))
  · exact iO_n (ty := .int) h (by simp) (by decide +kernel) (bT rfl (iO_n (ty := .int) h (by simp) (by decide +kernel) (bT rfl (iO_y (ty := .int) h (by simp) (by decide +kernel) (bF n10 q)))))
  · exact iO_n (ty := .long) h (by simp) (by decide +kernel) (bT rfl (iO_n (ty := .long) h (by simp) (by decide +kernel) (bT rfl (iO_n (ty := .long) h (by simp) (by decide +kernel) (bT rfl (iO_y (ty := .long) h (by simp) (by decide +kernel) (bF n10 q)))))))
  · exact iO_n (ty := .boolean) h (by simp) (by decide +kernel) (bT rfl (iO_n (ty := .boolean) h (by simp) (by decide +kernel) (bT rfl (iO_n (ty := .boolean) h (by simp) (by decide +kernel) (bT rfl (iO_n (ty := .boolean) h (by simp) (by decide +kernel) (bT rfl q)))))))
/-- a switch over the sorts -/
theorem sw5 {A0 A1 A2 A3 A4 : Prop} (hso : so ≤ 4) (h4 : so = 4 → A4) (h0 : so = 0 → A0) (h1 : so = 1 → A1) (h2 : so = 2 → A2) (h3 : so = 3 → A3) : (((Int32.ofNat so).toInt < 0 ∨ 3 < (Int32.ofNat so).toInt) → A4) ∧ (Int32.ofNat so = (0 : Int32) → A0) ∧ (Int32.ofNat so = (1 : Int32) → A1) ∧ (Int32.ofNat so = (2 : Int32) → A2) ∧ (Int32.ofNat so = (3 : Int32) → A3) := by
  rw [i32_toInt (by omega), i32_lit 0, i32_lit 1, i32_lit 2, i32_lit 3, i32_eq (by omega) (by omega), i32_eq (by omega) (by omega), i32_eq (by omega) (by omega), i32_eq (by omega) (by omega)]
  exact ⟨fun z => h4 (by omega), h0, h1, h2, h3⟩
theorem x_xI {ty : FieldType} {x : Int32} {u v Lc Ls : Nat} {κ : Int32 → Prop} {κx : Nat → Prop} (h : kd M c = some (true, .inr (ty, n))) (hn : n ≤ 125) (h1 : ∀ i, dec n x = some i → κ (mI M c i)) (h0 : dec n x = none → (u + 3 ≤ Lc ∧ v + 222 ≤ Ls) ∧ ∀ q, κx q) : xI M u v Lc Ls ty c x κ κx := ⟨n, h, by omega, fun z => by
  obtain ⟨i, e⟩ := vp_dec.mp z
  have d := dec_some e
  rw [d.2.1, i32_nat d.2.2]
  exact h1 i e, fun z => h0 (by
  cases e : dec n x with
  | none => rfl
  | some i => exact absurd (vp_dec.mpr ⟨i, e⟩) z)⟩
theorem x_xJ {x : Int32} {u v Lc Ls : Nat} {κ : Int64 → Prop} {κx : Nat → Prop} (h : kd M c = some (true, .inr (.long, n))) (hn : n ≤ 125) (h1 : ∀ i, dec n x = some i → κ (mJ M c i)) (h0 : dec n x = none → (u + 3 ≤ Lc ∧ v + 222 ≤ Ls) ∧ ∀ q, κx q) : xJ M u v Lc Ls c x κ κx := ⟨n, h, by omega, fun z => by
  obtain ⟨i, e⟩ := vp_dec.mp z
  have d := dec_some e
  rw [d.2.1, i32_nat d.2.2]
  exact h1 i e, fun z => h0 (by
  cases e : dec n x with
  | none => rfl
  | some i => exact absurd (vp_dec.mpr ⟨i, e⟩) z)⟩
theorem bool_fit {x : Int32} {j : Int64} (h : fits .boolean (gv .boolean x j none) = true) : x = 0 ∨ x = 1 := by
  have h : (x == 0 || x == 1) = true := h
  simpa using h
theorem x_elementOf (h : RwX M c so n f) {x : Int32} {Lc Ls : Nat} {Q : Int64 → gM → Prop} {X : String → Nat → gM → Prop} (h1 : ∀ i, dec n x = some i → Q (f i) M) (h0 : dec n x = none → (3 ≤ Lc ∧ 222 ≤ Ls) ∧ ∀ q, X "java/lang/ArrayIndexOutOfBoundsException" q M) : F_X0_elementOf Lc Ls M c x Q X := by
  obtain ⟨k, ⟨hso, hn⟩, w⟩ := h
  have h0' : dec n x = none → (0 + 3 ≤ Lc ∧ 0 + 222 ≤ Ls) ∧ ∀ q, X "java/lang/ArrayIndexOutOfBoundsException" q M := fun e => ⟨by have := (h0 e).1; omega, (h0 e).2⟩
  refine x_sortOf k hso (sw5 hso (fun e => ?_) (fun e => ?_) (fun e => ?_) (fun e => ?_) (fun e => ?_))
  · subst e
    refine ⟨cY_y (ty := .boolean) k (by simp) (by decide +kernel), x_xI k hn (fun i ei => ?_) h0'⟩
    obtain ⟨-, w2, w3⟩ := w i (dec_some ei).1
    have w2 := w2 (by omega)
    rcases bool_fit w3 with z | z
    · rw [z] at w2 ⊢
      exact bT rfl (by have := h1 i ei; rw [← w2] at this; exact this)
    · rw [z] at w2 ⊢
      exact bF n10 (by have := h1 i ei; rw [← w2] at this; exact this)
  · subst e
    refine ⟨cY_y (ty := .byte) k (by simp) (by decide +kernel), x_xI k hn (fun i ei => ?_) h0'⟩
    rw [(w i (dec_some ei).1).2.1 (by omega)]
    exact h1 i ei
  · subst e
    refine ⟨cY_y (ty := .short) k (by simp) (by decide +kernel), x_xI k hn (fun i ei => ?_) h0'⟩
    rw [(w i (dec_some ei).1).2.1 (by omega)]
    exact h1 i ei
  · subst e
    refine ⟨cY_y (ty := .int) k (by simp) (by decide +kernel), x_xI k hn (fun i ei => ?_) h0'⟩
    rw [(w i (dec_some ei).1).2.1 (by omega)]
    exact h1 i ei
  · subst e
    refine ⟨cY_y (ty := .long) k (by simp) (by decide +kernel), x_xJ k hn (fun i ei => ?_) h0'⟩
    rw [(w i (dec_some ei).1).1 rfl]
    exact h1 i ei
theorem x_sizeOf (k : kd M c = some (true, .inr (tyF so, n))) (hso : so ≤ 4) {Q : Int32 → gM → Prop} (q : Q (Int32.ofNat n) M) : F_X0_sizeOf M c Q := by
  refine x_sortOf k hso (sw5 hso (fun e => ?_) (fun e => ?_) (fun e => ?_) (fun e => ?_) (fun e => ?_)) <;> subst e
  · exact ⟨cY_y (ty := .boolean) k (by simp) (by decide +kernel), true, _, n, k, by simp [gTl, tyF], q⟩
  · exact ⟨cY_y (ty := .byte) k (by simp) (by decide +kernel), true, _, n, k, by simp [gTl, tyF], q⟩
  · exact ⟨cY_y (ty := .short) k (by simp) (by decide +kernel), true, _, n, k, by simp [gTl, tyF], q⟩
  · exact ⟨cY_y (ty := .int) k (by simp) (by decide +kernel), true, _, n, k, by simp [gTl, tyF], q⟩
  · exact ⟨cY_y (ty := .long) k (by simp) (by decide +kernel), true, _, n, k, by simp [gTl, tyF], q⟩
end XROWS
/-- a rule of the class -/
def RuX (M : gM) (ρ : Nat → Nat) (b : Nat) (u : Ru) (n : Nat) : Prop := ρ b = Tg b 63 ∧ match u.1 with
  | 1 => kd M b = some (true, .inl 6) ∧ mI M b 0 = Int32.ofNat u.2.1
  | 2 => kd M b = some (true, .inl 7) ∧ mI M b 0 = Int32.ofNat u.2.1
  | 3 => kd M b = some (true, .inl 8) ∧ mI M b 0 = Int32.ofNat (u.2.1 / 10) ∧ ∃ c, mR M b 1 = some c ∧ (kd M c = some (true, .inl 7) ∧ ρ c = Tg b 1) ∧ mI M c 0 = Int32.ofNat (u.2.1 % 10)
  | 4 => kd M b = some (true, .inl 9)
  | _ => kd M b = some (true, .inl 10) ∧ mI M b 1 = Int32.ofNat n ∧ ∃ c so f, mR M b 0 = some c ∧ ρ c = Tg b 0 ∧ RwX M c so n f ∧ ∀ i, u.2.2 i = decide (i < n ∧ f i ≠ 0)
section XRULE
variable {M : gM} {a b : Nat} {ρ P : Nat → Nat} {u : Ru} {n : Nat}
theorem x_daily {d by_ : Nat} {Q : Int32 → gM → Prop} {y : Int32} {c : Nat} (hk : kd M c = some (true, .inl 7)) (hv : mI M c 0 = Int32.ofNat by_) (hb : 1 ≤ by_ ∧ by_ ≤ 6) (hd : d ≤ 6) (h1 : d % by_ = 0 → Q 1 M) (h0 : ¬ d % by_ = 0 → Q 0 M) : F_X7_sends M c a y (Int32.ofNat d) Q := by
  refine gI_i hk ?_
  rw [hv]
  refine ⟨fun z => by rw [i32_lit 0, i32_eq (by omega) (by omega)] at z; omega, ?_⟩
  rw [i32_rem (by omega) (by omega)]
  exact eqS' (b := 0) (Nat.lt_of_lt_of_le (Nat.mod_lt _ (by omega)) (by omega)) (by omega) (fun z => h0 z) (fun z => h1 z)
theorem x_load (h : HX M ρ a P) (C : CsA M ρ) (hr : RuX M ρ b u n) (hwu : WfR u) {Lc Ls d s : Nat} {Q : Int32 → gM → Prop} (hL : u.1 = 4 → ndC M a ≤ Lc ∧ ndS M a ≤ Ls) (hd : d ≤ P 0) (hs5 : s < 5 ^ P 4) (q : ∀ M' ρ', Fx (SF a) ρ M ρ' M' → HX M' ρ' a P → (u.1 ≠ 4 → M' = M ∧ ρ' = ρ) → (u.1 = 4 → ndC M' a = 0 ∧ ndS M' a = 0) → Kp13 M M' a → Q (Int32.ofNat (ldF P u d s)) M') : FD_Chooser_load Lc Ls M b a (Int32.ofNat s) (Int32.ofNat d) Q := by
  obtain ⟨⟨r, hs⟩, ca, hw⟩ := id h
  have hk := hw.2.2.2.2.1
  have h5 := p5_le hk.2
  have hd0 := hw.1
  have hm := sm0_lt hw s
  obtain ⟨kk, by_, tl_⟩ := u
  obtain ⟨⟨k1, k5⟩, w1, w2, w3⟩ := hwu
  simp only at k1 k5 w1 w2 w3
  obtain ⟨hT, hr⟩ := hr
  simp only at hr
  -- the end of a rule that isn't the best
  have no4 : kk ≠ 4 → (∀ y : Int32, (y = 0 ∨ y = 1) → (y = 1 ↔ flls P (kk, by_, tl_) d s) → ((y = 0 → Q (0 : Int32) M) ∧ (¬ y = 0 → rc M 12 a ∧ F_X12_fill M a (Int32.ofNat s) fun x_6 M_5 => Q x_6 M_5))) := fun h4 y hy hi => by
    rcases hy with rfl | rfl
    · refine bT rfl ?_
      have := q M ρ Fx.rf h (fun _ => ⟨rfl, rfl⟩) (fun z => absurd z h4) (fun _ _ _ _ => rfl)
      rw [ldF_n h4 (fun z => absurd (hi.mpr z) (by decide))] at this
      exact this
    · refine bF n10 (x_rc hs (x_fill hs C hw (by omega) ?_))
      have := q M ρ Fx.rf h (fun _ => ⟨rfl, rfl⟩) (fun z => absurd z h4) (fun _ _ _ _ => rfl)
      rw [ldF_y h4 (hi.mp rfl)] at this
      exact this
  rcases (by omega : kk = 1 ∨ kk = 2 ∨ kk = 3 ∨ kk = 4 ∨ kk = 5) with rfl | rfl | rfl | rfl | rfl
  · obtain ⟨g1, g2⟩ := hr
    have hb := w1 rfl
    refine Or.inl ⟨⟨true, g1⟩, 0, 0, ⟨by omega, by omega⟩, Or.inl ⟨⟨true, g1⟩, x_rc hs (x_space hs C hk.2 (by omega) (gI_i g1 ?_))⟩⟩
    rw [g2]
    exact ltS (by omega) (by omega) (fun z => no4 (by omega) 0 (Or.inl rfl) ⟨fun y => absurd y (by decide), fun y => absurd (show by_ ≤ sm P 0 s from y) (by omega)⟩) (fun z => no4 (by omega) 1 (Or.inr rfl) ⟨fun _ => z, fun _ => rfl⟩)
  · obtain ⟨g1, g2⟩ := hr
    have hb := w2 rfl
    exact Or.inr (Or.inl ⟨⟨true, g1⟩, 0, 0, ⟨by omega, by omega⟩, Or.inr (Or.inl ⟨⟨true, g1⟩, x_daily g1 g2 hb (by omega) (fun z => no4 (by omega) 1 (Or.inr rfl) ⟨fun _ => z, fun _ => rfl⟩) (fun z => no4 (by omega) 0 (Or.inl rfl) ⟨fun y => absurd y (by decide), fun y => absurd y z⟩)⟩)⟩)
  · obtain ⟨g1, g2, c, g3, g4, g5⟩ := hr
    have hb := w3 rfl
    refine Or.inr (Or.inr (Or.inl ⟨⟨true, g1⟩, 0, 0, ⟨by omega, by omega⟩, Or.inr (Or.inr (Or.inl ⟨⟨true, g1⟩, rc_i g1 (x_rc hs (x_space hs C hk.2 (by omega) (gI_i g1 ?_)))⟩))⟩))
    rw [g2]
    refine ltS (by omega) (by omega) (fun z => bF' rfl (gN_i g1 g3 (rc_i g4.1 (x_daily g4.1 g5 hb.2 (by omega) (fun y => bF n10 (no4 (by omega) 1 (Or.inr rfl) ⟨fun _ => Or.inr y, fun _ => rfl⟩)) (fun y => bT rfl (no4 (by omega) 0 (Or.inl rfl) ⟨fun y => absurd y (by decide), fun y2 => y2.elim (fun y3 => absurd (show by_ / 10 ≤ sm P 0 s from y3) (by omega)) (fun y3 => absurd y3 y)⟩)))))) (fun z => bT' n10 (no4 (by omega) 1 (Or.inr rfl) ⟨fun _ => Or.inl z, fun _ => rfl⟩))
  · refine Or.inr (Or.inr (Or.inr (Or.inl ⟨⟨true, hr⟩, Lc, Ls, ⟨by omega, by omega⟩, x_rc hs (x_best h C (hL rfl) hd hs5 (fun M' ρ' f h' nd kp => ?_))⟩)))
    have := q M' ρ' f h' (fun z => absurd rfl z) (fun _ => nd) kp
    rw [ldF_4 rfl] at this
    exact this
  · obtain ⟨g1, g2, c, so, f, g3, g4, g5, g6⟩ := hr
    have hn := g5.2.1.2
    refine Or.inr (Or.inr (Or.inr (Or.inr ⟨⟨true, g1⟩, 0, 0, ⟨by omega, by omega⟩, Or.inr (Or.inr (Or.inr (Or.inr ⟨⟨true, g1⟩, gI_i g1 ?_⟩)))⟩)))
    have et : flls P (5, by_, tl_) d s ↔ (s < n ∧ f s ≠ 0) := by
      show tl_ s = true ↔ _
      rw [g6 s, decide_eq_true_iff]
    rw [g2]
    refine leS (by omega) (by omega) (fun z => no4 (by omega) 0 (Or.inl rfl) ⟨fun y => absurd y (by decide), fun y => absurd (et.mp y).1 (by omega)⟩) (fun z => gN_i g1 g3 ⟨0, 0, ⟨by omega, by omega⟩, x_elementOf g5 (fun i ei => ?_) (fun e => absurd e (by rw [dec_of z (by omega)]; exact fun z => by cases z))⟩)
    rw [dec_of z (by omega)] at ei
    cases ei
    exact ⟨fun y => no4 (by omega) 0 (Or.inl rfl) ⟨fun y => absurd y (by decide), fun y2 => absurd y (et.mp y2).2⟩, fun y => no4 (by omega) 1 (Or.inr rfl) ⟨fun _ => et.mpr ⟨z, y⟩, fun _ => rfl⟩⟩
end XRULE
