/-! the class's houses: what is read of them -/
set_option maxRecDepth 100000
/-- the tag of a field's cell of an object of the class -/
def Tg (a k : Nat) : Nat := 100000 + 64 * a + k
theorem sh_bv : ∀ n, n < 64 → (((Int32.ofNat n).toInt64 &&& 63).toBitVec.smod 64) = BitVec.ofNat 64 n := by decide +kernel
theorem shl_mul (j : Int64) {n : Nat} (hn : n < 64) : j <<< ((Int32.ofNat n).toInt64 &&& 63) = j * Int64.ofNat (2 ^ n) := by
  apply Int64.toBitVec_inj.mp
  rw [Int64.toBitVec_shiftLeft, sh_bv n hn, Int64.toBitVec_mul]
  show j.toBitVec <<< (BitVec.ofNat 64 n).toNat = _
  rw [BitVec.toNat_ofNat, Nat.mod_eq_of_lt (by omega), BitVec.shiftLeft_eq_mul_twoPow]
  congr 1
  apply BitVec.eq_of_toNat_eq
  rw [BitVec.toNat_twoPow]
  rfl
theorem p2_4 (m : Nat) : 2 ^ (2 * m) = 4 ^ m := by rw [Nat.pow_mul]
/-- a house of the class -/
def HsX (M : gM) (ρ : Nat → Nat) (a : Nat) (r : Nat → Nat) (P : Nat → Nat) : Prop := (kd M a = some (true, .inl 12) ∧ ρ a = Tg a 63) ∧ (∀ i, i < 5 → mI M a i = Int32.ofNat (P i)) ∧ ∀ w, w < 5 → mR M a (5 + w) = some (r w) ∧ (kd M (r w) = some (true, .inr (.int, 3)) ∧ ρ (r w) = Tg a (5 + w)) ∧ ∀ i, i < P 4 → mI M (r w) i = Int32.ofNat (P (5 + 5 * i + w))
section XHOUSE
variable {M : gM} {a : Nat} {r ρ P : Nat → Nat}
theorem x_rc (h : HsX M ρ a r P) {A : Prop} (q : A) : rc M 12 a ∧ A := rc_i h.1.1 q
theorem x_gI (h : HsX M ρ a r P) {k : Nat} {κ : Int32 → Prop} (hk : k < 5) (q : κ (Int32.ofNat (P k))) : gI M 12 a k κ := gI_i h.1.1 (by rw [h.2.1 k hk]; exact q)
theorem x_row (h : HsX M ρ a r P) {w k i : Nat} {κ : Int32 → Prop} (hk : k = 5 + w) (hw : w < 5) (h4 : P 4 ≤ 3) (hi : i < P 4) (q : κ (Int32.ofNat (P (5 + 5 * i + w)))) : gN M 12 a k fun z => aI M .int z (Int32.ofNat i) κ := by
  subst hk
  obtain ⟨h1, h2, h3⟩ := h.2.2 w hw
  refine gN_i h.1.1 h1 (aI_i h2.1 (by omega) (by omega) ?_)
  rw [h3 i hi]
  exact q
theorem x_place (C : CsA M ρ) {i : Nat} {κ : Int32 → Prop} (hi : i < 3) (q : κ (Int32.ofNat (5 ^ i))) : aI M .int (gl M 0) (Int32.ofNat i) κ := aI_i C.2.1.1 hi (by omega) (by rw [C.2.2 i hi]; exact q)
theorem x_standing (C : CsA M ρ) {s i : Nat} {Q : Int32 → gM → Prop} (hs : s < 2147483648) (hi : i < 3) (q : Q (Int32.ofNat (dg s i)) M) : F_X0_standing M (Int32.ofNat s) (Int32.ofNat i) Q := by
  have h5 : 5 ^ i < 2147483648 ∧ 5 ^ i ≠ 0 := by rcases (by omega : i = 0 ∨ i = 1 ∨ i = 2) with rfl | rfl | rfl <;> decide
  refine x_place C hi ⟨?_, ?_⟩
  · intro e
    rw [i32_lit 0, i32_eq h5.1 (by omega)] at e
    exact h5.2 e
  · rw [i32_div hs h5.1, i32_lit 5, i32_div (Nat.lt_of_le_of_lt (Nat.div_le_self _ _) hs) (by omega), i32_mul, i32_sub (Nat.div_mul_le_self _ _)]
    have e : s / 5 ^ i - s / 5 ^ i / 5 * 5 = dg s i := by
      unfold dg
      omega
    rw [e]
    exact q
theorem x_isOf (C : CsA M ρ) {l s : Nat} {Q : Int32 → gM → Prop} (hl : l < 2147483648) (hs : s < 2147483648) (h1 : (dg l 0 ≤ dg s 0 ∧ dg l 1 ≤ dg s 1 ∧ dg l 2 ≤ dg s 2) → Q 1 M) (h0 : ¬ (dg l 0 ≤ dg s 0 ∧ dg l 1 ≤ dg s 1 ∧ dg l 2 ≤ dg s 2) → Q 0 M) : F_X0_isOf M (Int32.ofNat l) (Int32.ofNat s) Q := by
  refine loopV (fun g v N => F_X0_isOf_b2 Q (Int32.ofNat l) (Int32.ofNat s) g v N) (fun i => Int32.ofNat i) (fun i N => N = M ∧ ∀ j, j < i → dg l j ≤ dg s j) 3 (fun i hi g N hI k => ?_) (fun g N hI => ?_) M ⟨rfl, fun j hj => absurd hj (Nat.not_lt_zero _)⟩
  · obtain ⟨hM, hI⟩ := hI
    subst hM
    have e1 := dg_le l i
    have e2 := dg_le s i
    refine leF (a := 3) hi (by omega) (x_standing C hl hi (x_standing C hs hi (leS (by omega) (by omega) (fun c => ?_) (fun c => h0 (fun z => ?_)))))
    · rw [i32_lit 1, i32_add]
      refine k N ⟨rfl, fun j hj => ?_⟩
      by_cases e : j = i
      · rw [e]; exact c
      · exact hI j (by omega)
    · rcases (by omega : i = 0 ∨ i = 1 ∨ i = 2) with rfl | rfl | rfl <;> omega
  · obtain ⟨hM, hI⟩ := hI
    subst hM
    exact leT (a := 3) (Nat.le_refl _) (by omega) (h1 ⟨hI 0 (by omega), hI 1 (by omega), hI 2 (by omega)⟩)
theorem x_parcels (C : CsA M ρ) {l : Nat} {Q : Int32 → gM → Prop} (hl : l < 2147483648) (q : Q (Int32.ofNat (pcs l)) M) : F_X0_parcels M (Int32.ofNat l) Q := by
  refine loopC (fun g v N => F_X0_parcels_b4 Q (Int32.ofNat l) g v.1 v.2 N) (fun i => (Int32.ofNat (dsN l i), Int32.ofNat i)) M 3 (fun i hi g k => ?_) (fun g => ?_)
  · refine leF (a := 3) hi (by omega) (x_standing C hl hi ?_)
    rw [i32_lit 1, i32_add, i32_add]
    exact k
  · refine leT (a := 3) (Nat.le_refl _) (by omega) ?_
    have e : dsN l 3 = pcs l := by show 0 + dg l 0 + dg l 1 + dg l 2 = _; unfold pcs; omega
    show Q (Int32.ofNat (dsN l 3)) M
    rw [e]
    exact q
theorem x_states (h : HsX M ρ a r P) (hk : 1 ≤ P 4 ∧ P 4 ≤ 3) {Q : Int32 → gM → Prop} (q : Q (Int32.ofNat (5 ^ P 4)) M) : F_X12_states M a Q := by
  refine x_gI h (by omega) (eqS' (b := 1) (by omega) (by omega) (fun c => x_gI h (by omega) (eqS' (b := 2) (by omega) (by omega) (fun c2 => ?_) (fun c2 => ?_))) (fun c => ?_))
  · rw [show P 4 = 3 by omega] at q; exact q
  · rw [c2] at q; exact q
  · rw [c] at q; exact q
theorem x_space (h : HsX M ρ a r P) (C : CsA M ρ) (hk : P 4 ≤ 3) {s : Nat} {Q : Int32 → gM → Prop} (hs : s < 2147483648) (q : Q (Int32.ofNat (sm P 0 s)) M) : F_X12_space M a (Int32.ofNat s) Q := by
  refine loopC (fun g v N => F_X12_space_b4 Q a (Int32.ofNat s) g v.1 v.2 N) (fun i => (Int32.ofNat (smN P 0 s i), Int32.ofNat i)) M (P 4) (fun i hi g k => ?_) (fun g => ?_)
  · refine x_gI h (by omega) (leF hi (by omega) (x_row (w := 0) h rfl (by omega) hk hi (x_standing C hs (by omega) ?_)))
    rw [i32_lit 1, i32_mul, i32_add, i32_add, Nat.mul_comm]
    exact k
  · exact x_gI h (by omega) (leT (Nat.le_refl _) (by omega) q)
theorem x_holding (h : HsX M ρ a r P) (C : CsA M ρ) (hk : P 4 ≤ 3) {s : Nat} {Q : Int32 → gM → Prop} (hs : s < 2147483648) (q : Q (Int32.ofNat (sm P 2 s)) M) : F_X12_holding M a (Int32.ofNat s) Q := by
  refine loopC (fun g v N => F_X12_holding_b4 Q a (Int32.ofNat s) g v.1 v.2 N) (fun i => (Int32.ofNat (smN P 2 s i), Int32.ofNat i)) M (P 4) (fun i hi g k => ?_) (fun g => ?_)
  · refine x_gI h (by omega) (leF hi (by omega) (x_row (w := 2) h rfl (by omega) hk hi (x_standing C hs (by omega) ?_)))
    rw [i32_lit 1, i32_mul, i32_add, i32_add, Nat.mul_comm]
    exact k
  · exact x_gI h (by omega) (leT (Nat.le_refl _) (by omega) q)
theorem x_leaving (h : HsX M ρ a r P) (C : CsA M ρ) (hk : P 4 ≤ 3) {s : Nat} {Q : Int32 → gM → Prop} (hs : s < 2147483648) (q : Q (Int32.ofNat (sm P 4 s)) M) : F_X12_leaving M a (Int32.ofNat s) Q := by
  refine loopC (fun g v N => F_X12_leaving_b4 Q a (Int32.ofNat s) g v.1 v.2 N) (fun i => (Int32.ofNat (smN P 4 s i), Int32.ofNat i)) M (P 4) (fun i hi g k => ?_) (fun g => ?_)
  · refine x_gI h (by omega) (leF hi (by omega) (x_row (w := 4) h rfl (by omega) hk hi (x_standing C hs (by omega) ?_)))
    rw [i32_lit 1, i32_mul, i32_add, i32_add, Nat.mul_comm]
    exact k
  · exact x_gI h (by omega) (leT (Nat.le_refl _) (by omega) q)
theorem x_isLoad (h : HsX M ρ a r P) (C : CsA M ρ) (hw : Wf P) {l s : Nat} {Q : Int32 → gM → Prop} (hl : l < 125) (hs : s < 125) (h1 : isLd P s l → Q 1 M) (h0 : ¬ isLd P s l → Q 0 M) : F_X12_isLoad M a (Int32.ofNat l) (Int32.ofNat s) Q := by
  have hm := sm0_lt hw l
  have hr := hw.2.2.1
  refine x_isOf C (by omega) (by omega) (fun c => bF n10 (x_rc h (x_space h C hw.2.2.2.2.1.2 (by omega) (x_gI h (by omega) (ltS (by omega) (by omega) (fun c2 => h0 (fun z => by have := z.2; omega)) (fun c2 => h1 ⟨c, by omega⟩)))))) (fun c => bT rfl (h0 (fun z => c z.1)))
theorem x_scale (h : HsX M ρ a r P) (hk : P 4 ≤ 3) {d : Nat} {Q : Int64 → gM → Prop} (hd : d ≤ 6) (q : Q (Int64.ofNat (scl P d)) M) : F_X12_scale M a (Int32.ofNat d) Q := by
  refine x_gI h (by omega) ?_
  have hm : d * (1 + P 4) ≤ 24 := Nat.le_trans (Nat.mul_le_mul hd (by omega : 1 + P 4 ≤ 4)) (by decide)
  rw [i32_lit 2, i32_lit 1, i32_mul, i32_add, i32_mul, Nat.mul_assoc, shl_mul _ (by omega), p2_4]
  have e : (1 : Int64) * Int64.ofNat (4 ^ (d * (1 + P 4))) = Int64.ofNat (scl P d) := by
    rw [i64_lit 1, i64_mul, Nat.one_mul]
    rfl
  rw [e]
  exact q
theorem x_dearest (h : HsX M ρ a r P) (hw : Wf P) {d : Nat} {Q : Int32 → gM → Prop} (hd : d < 8) (q : Q (oI (drN P d (P 4))) M) : F_X12_dearest M a (Int32.ofNat d) Q := by
  have hk := hw.2.2.2.2.1
  refine loopC (fun g v N => F_X12_dearest_b4 Q a (Int32.ofNat d) g v.1 v.2 N) (fun i => (oI (drN P d i), Int32.ofNat i)) M (P 4) (fun i hi g k => ?_) (fun g => x_gI h (by omega) (leT (Nat.le_refl _) (by omega) q))
  show F_X12_dearest_b4 Q a (Int32.ofNat d) (g + 1) (oI (drN P d i)) (Int32.ofNat i) M
  refine x_gI h (by omega) (leF hi (by omega) ?_)
  rw [bt_m d hd i (by omega)]
  have go : ∀ v, v = drN P d (i + 1) → F_X12_dearest_b42 Q (F_X12_dearest_b4 Q a (Int32.ofNat d) g) a (Int32.ofNat d) (oI v) (Int32.ofNat i) M := fun v hv => by
    unfold F_X12_dearest_b42
    rw [hv, i32_lit 1, i32_add]
    exact k
  refine ⟨fun c => go _ ?_, fun c => ?_⟩
  · show _ = (if bt d i then _ else _)
    rw [if_pos (by simpa using c)]
  · have e0 : drN P d (i + 1) = match drN P d i with | none => some i | some j => if P (7 + 5 * i) ≤ P (7 + 5 * j) then some j else some i := by
      show (if bt d i then _ else _) = _
      rw [if_neg (by rw [c]; exact Bool.noConfusion)]
      rfl
    cases e : drN P d i with
    | none => exact bT rfl (go (some i) (by rw [e0, e]))
    | some j =>
      obtain ⟨j1, j2⟩ := drN_some e
      have h7 := (hw.2.2.2.2.2 i (by omega)).2.2.1
      have h7' := (hw.2.2.2.2.2 j (by omega)).2.2.1
      refine bF (oI_ne (by omega)) (x_row (w := 2) h rfl (by omega) hk.2 hi (x_row (w := 2) (i := j) h rfl (by omega) hk.2 (by omega) ?_))
      rw [show 5 + 5 * i + 2 = 7 + 5 * i by omega, show 5 + 5 * j + 2 = 7 + 5 * j by omega]
      exact leS (by omega) (by omega) (fun c2 => go (some j) (by rw [e0, e]; simp only; rw [if_pos c2])) (fun c2 => go (some i) (by rw [e0, e]; simp only; rw [if_neg (by omega)]))
theorem x_fill (h : HsX M ρ a r P) (C : CsA M ρ) (hw : Wf P) {s : Nat} {Q : Int32 → gM → Prop} (hs : s < 2147483648) (q : Q (Int32.ofNat (fl P s)) M) : F_X12_fill M a (Int32.ofNat s) Q := by
  have hk := hw.2.2.2.2.1
  refine x_gI h (by omega) ?_
  refine loopC (fun g v N => F_X12_fill_b13 Q a (Int32.ofNat s) g v.1 v.2.1 v.2.2.1 v.2.2.2 N) (fun t => (Int32.ofNat (flN P s t).1, Int32.ofNat (flN P s t).2.1, Int32.ofNat (flN P s t).2.2, Int32.ofNat t)) M (P 4) (fun t ht g k => ?_) (fun g => x_gI h (by omega) (leT (Nat.le_refl _) (by omega) q))
  show F_X12_fill_b13 Q a (Int32.ofNat s) (g + 1) (Int32.ofNat (flN P s t).1) (Int32.ofNat (flN P s t).2.1) (Int32.ofNat (flN P s t).2.2) (Int32.ofNat t) M
  obtain ⟨h1, h2, h3, h4⟩ := flN_inv hw s t (by omega)
  obtain ⟨i, hi⟩ := dr_there (P := P) (x := (flN P s t).2.2) hk.2 (by omega)
  obtain ⟨i1, i2⟩ := drN_some hi
  have e : flN P s (t + 1) = ((flN P s t).1 + min (dg s i) ((flN P s t).2.1 / P (5 + 5 * i)) * 5 ^ i, (flN P s t).2.1 - min (dg s i) ((flN P s t).2.1 / P (5 + 5 * i)) * P (5 + 5 * i), sb (flN P s t).2.2 i) := by
    show (match drN P (flN P s t).2.2 (P 4) with | none => flN P s t | some i => _) = _
    rw [hi]
  have k : F_X12_fill_b13 Q a (Int32.ofNat s) g (Int32.ofNat (flN P s (t + 1)).1) (Int32.ofNat (flN P s (t + 1)).2.1) (Int32.ofNat (flN P s (t + 1)).2.2) (Int32.ofNat (t + 1)) M := k
  rw [e] at k
  generalize flN P s t = f at h1 h2 h3 h4 hi k ⊢
  have hz : 1 ≤ P (5 + 5 * i + 0) ∧ P (5 + 5 * i + 0) ≤ 9 := (hw.2.2.2.2.2 i i1).1
  have hdg := dg_le s i
  have hfd : f.2.1 / P (5 + 5 * i) ≤ f.2.1 := Nat.div_le_self _ _
  refine x_gI h (by omega) (leF ht (by omega) (x_rc h (x_dearest h hw h3 ?_)))
  rw [hi]
  refine x_standing C hs (by omega) (x_row (w := 0) (i := i) h rfl (by omega) hk.2 i1 ⟨?_, x_place C (by omega) (x_row (w := 0) (i := i) h rfl (by omega) hk.2 i1 ?_)⟩)
  · intro z
    rw [i32_lit 0, i32_eq (by omega) (by omega)] at z
    omega
  · have hle : min (dg s i) (f.2.1 / P (5 + 5 * i)) * P (5 + 5 * i) ≤ f.2.1 := Nat.le_trans (Nat.mul_le_mul_right _ (Nat.min_le_right _ _)) (Nat.div_mul_le_self _ _)
    have em : (if Int32.ofNat f.2.1 / Int32.ofNat (P (5 + 5 * i + 0)) < Int32.ofNat (dg s i) then Int32.ofNat f.2.1 / Int32.ofNat (P (5 + 5 * i + 0)) else Int32.ofNat (dg s i)) = Int32.ofNat (min (dg s i) (f.2.1 / P (5 + 5 * i))) := by
      rw [i32_div (by omega) (by omega)]
      show (if Int32.ofNat (f.2.1 / P (5 + 5 * i)) < _ then Int32.ofNat (f.2.1 / P (5 + 5 * i)) else _) = _
      by_cases c : f.2.1 / P (5 + 5 * i) < dg s i
      · rw [if_pos (by rw [i32_lt (by omega) (by omega)]; exact c), Nat.min_eq_right (by omega)]
      · rw [if_neg (by rw [i32_lt (by omega) (by omega)]; exact c), Nat.min_eq_left (by omega)]
    rw [em, show oI (some i) = Int32.ofNat i from rfl, sb_m f.2.2 h3 i (by omega), i32_mul, i32_add, i32_mul, i32_lit 1, i32_add]
    rw [show P (5 + 5 * i + 0) = P (5 + 5 * i) from rfl, i32_sub hle]
    exact k
end XHOUSE
