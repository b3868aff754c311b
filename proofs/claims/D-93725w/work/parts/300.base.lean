/-! PURE LEVEL: numbers, memory, the words of the F's -/
set_option maxRecDepth 100000
/-! numbers -/
theorem i32_lit (n : Nat) : (OfNat.ofNat n : Int32) = Int32.ofNat n := rfl
theorem i32_toInt {a : Nat} (h : a < 2147483648) : (Int32.ofNat a).toInt = (a : Int) := Int32.toInt_ofNat_of_lt (by omega)
theorem i32_nat {a : Nat} (h : a < 2147483648) : (Int32.ofNat a).toNatClampNeg = a := by
  show (Int32.ofNat a).toInt.toNat = a
  rw [i32_toInt h]
  omega
theorem i32_le {a b : Nat} (ha : a < 2147483648) (hb : b < 2147483648) : (Int32.ofNat a ≤ Int32.ofNat b) = (a ≤ b) := by
  rw [Int32.le_iff_toInt_le, i32_toInt ha, i32_toInt hb]
  exact propext ⟨fun h => by omega, fun h => by omega⟩
theorem i32_lt {a b : Nat} (ha : a < 2147483648) (hb : b < 2147483648) : (Int32.ofNat a < Int32.ofNat b) = (a < b) := by
  rw [Int32.lt_iff_toInt_lt, i32_toInt ha, i32_toInt hb]
  exact propext ⟨fun h => by omega, fun h => by omega⟩
theorem i32_eq {a b : Nat} (ha : a < 2147483648) (hb : b < 2147483648) : (Int32.ofNat a = Int32.ofNat b) = (a = b) := by
  refine propext ⟨fun h => ?_, fun h => by rw [h]⟩
  have := congrArg Int32.toInt h
  rw [i32_toInt ha, i32_toInt hb] at this
  omega
theorem i32_add (a b : Nat) : Int32.ofNat a + Int32.ofNat b = Int32.ofNat (a + b) := (Int32.ofNat_add a b).symm
theorem i32_mul (a b : Nat) : Int32.ofNat a * Int32.ofNat b = Int32.ofNat (a * b) := (Int32.ofNat_mul a b).symm
theorem i32_sub {a b : Nat} (h : b ≤ a) : Int32.ofNat a - Int32.ofNat b = Int32.ofNat (a - b) := by
  have : Int32.ofNat a = Int32.ofNat (a - b) + Int32.ofNat b := by rw [i32_add]; congr 1; omega
  rw [this, Int32.add_sub_cancel]
theorem i32_div {a b : Nat} (ha : a < 2147483648) (hb : b < 2147483648) : Int32.ofNat a / Int32.ofNat b = Int32.ofNat (a / b) := by
  apply Int32.toInt_inj.mp
  have hd : a / b ≤ a := Nat.div_le_self a b
  rw [i32_toInt (by omega)]
  by_cases h : b = 0
  · subst h
    simp
  · rw [Int32.toInt_div_of_ne_left _ _ (by
      intro e
      have := congrArg Int32.toInt e
      rw [i32_toInt ha] at this
      have h9 : Int32.minValue.toInt = -2147483648 := by decide
      omega), i32_toInt ha, i32_toInt hb]
    exact (Int.ofNat_tdiv a b).symm
theorem i32_lt0 {a : Nat} (ha : a < 2147483648) : ¬ Int32.ofNat a < 0 := by
  rw [i32_lit 0, i32_lt ha (by omega)]
  omega
theorem i64_of {a : Nat} (ha : a < 2147483648) : (Int32.ofNat a).toInt64 = Int64.ofNat a := by
  apply Int64.toInt_inj.mp
  rw [Int32.toInt_toInt64, i32_toInt ha, Int64.toInt_ofNat_of_lt (by omega)]
theorem i64_lit (n : Nat) : (OfNat.ofNat n : Int64) = Int64.ofNat n := rfl
theorem i64_toInt {a : Nat} (h : a < 9223372036854775808) : (Int64.ofNat a).toInt = (a : Int) := Int64.toInt_ofNat_of_lt (by omega)
theorem i64_le {a b : Nat} (ha : a < 9223372036854775808) (hb : b < 9223372036854775808) : (Int64.ofNat a ≤ Int64.ofNat b) = (a ≤ b) := by
  rw [Int64.le_iff_toInt_le, i64_toInt ha, i64_toInt hb]
  exact propext ⟨fun h => by omega, fun h => by omega⟩
theorem i64_lt {a b : Nat} (ha : a < 9223372036854775808) (hb : b < 9223372036854775808) : (Int64.ofNat a < Int64.ofNat b) = (a < b) := by
  rw [Int64.lt_iff_toInt_lt, i64_toInt ha, i64_toInt hb]
  exact propext ⟨fun h => by omega, fun h => by omega⟩
theorem i64_add (a b : Nat) : Int64.ofNat a + Int64.ofNat b = Int64.ofNat (a + b) := (Int64.ofNat_add a b).symm
theorem i64_mul (a b : Nat) : Int64.ofNat a * Int64.ofNat b = Int64.ofNat (a * b) := (Int64.ofNat_mul a b).symm
theorem vp_inN {i n : Nat} (hi : i < 2147483648) : vp_in (Int32.ofNat i) n = (i < n) := by
  unfold vp_in
  rw [i32_nat hi]
  exact propext ⟨fun h => Nat.not_le.mp fun q => h (Or.inr q), fun h q => q.elim (i32_lt0 hi) (fun q => absurd h (Nat.not_lt.mpr q))⟩
/-- every int between two naturals is a natural -/
theorem i32_of {x : Int32} (h : ¬ x < 0) : ∃ a : Nat, a < 2147483648 ∧ x = Int32.ofNat a := by
  have h0 := Int32.not_lt.mp h
  have h1 : (0 : Int) ≤ x.toInt := by simpa using Int32.le_iff_toInt_le.mp h0
  have h2 := Int32.toInt_lt x
  refine ⟨x.toInt.toNat, by omega, Int32.toInt_inj.mp ?_⟩
  rw [i32_toInt (by omega)]
  omega
/-! branches -/
theorem bT {c A B : Prop} (h : c) (k : A) : (c → A) ∧ (¬ c → B) := ⟨fun _ => k, fun z => absurd h z⟩
theorem bF {c A B : Prop} (h : ¬ c) (k : B) : (c → A) ∧ (¬ c → B) := ⟨fun z => absurd z h, fun _ => k⟩
theorem bT' {c A B : Prop} (h : ¬ c) (k : A) : (¬ c → A) ∧ (c → B) := ⟨fun _ => k, fun z => absurd z h⟩
theorem bF' {c A B : Prop} (h : c) (k : B) : (¬ c → A) ∧ (c → B) := ⟨fun z => absurd h z, fun _ => k⟩
/-! memory -/
theorem kd_sI (M : gM) (a k : Nat) (x : Int32) : kd (sI M a k x) = kd M := rfl
theorem kd_sJ (M : gM) (a k : Nat) (x : Int64) : kd (sJ M a k x) = kd M := rfl
theorem kd_sR (M : gM) (a k : Nat) (x : Option Nat) : kd (sR M a k x) = kd M := rfl
theorem mR_sI (M : gM) (a k : Nat) (x : Int32) : mR (sI M a k x) = mR M := rfl
theorem mR_sJ (M : gM) (a k : Nat) (x : Int64) : mR (sJ M a k x) = mR M := rfl
theorem gl_sI (M : gM) (a k : Nat) (x : Int32) : gl (sI M a k x) = gl M := rfl
theorem gl_sJ (M : gM) (a k : Nat) (x : Int64) : gl (sJ M a k x) = gl M := rfl
theorem gl_sR (M : gM) (a k : Nat) (x : Option Nat) : gl (sR M a k x) = gl M := rfl
theorem mJ_sI (M : gM) (a k : Nat) (x : Int32) : mJ (sI M a k x) = mJ M := rfl
theorem mI_sJ (M : gM) (a k : Nat) (x : Int64) : mI (sJ M a k x) = mI M := rfl
theorem mI_sR (M : gM) (a k : Nat) (x : Option Nat) : mI (sR M a k x) = mI M := rfl
theorem mJ_sR (M : gM) (a k : Nat) (x : Option Nat) : mJ (sR M a k x) = mJ M := rfl
theorem mI_sI (M : gM) (a k : Nat) (x : Int32) (b j : Nat) : mI (sI M a k x) b j = if b = a ∧ j = k then x else mI M b j := rfl
theorem mJ_sJ (M : gM) (a k : Nat) (x : Int64) (b j : Nat) : mJ (sJ M a k x) b j = if b = a ∧ j = k then x else mJ M b j := rfl
theorem mR_sR (M : gM) (a k : Nat) (x : Option Nat) (b j : Nat) : mR (sR M a k x) b j = if b = a ∧ j = k then x else mR M b j := rfl
/-! the words -/
theorem gN_i {M : gM} {ci a k b : Nat} {κ : Nat → Prop} (h : kd M a = some (true, .inl ci)) (hr : mR M a k = some b) (q : κ b) : gN M ci a k κ := ⟨⟨true, h, Or.inl rfl⟩, b, hr, q⟩
theorem gI_i {M : gM} {ci a k : Nat} {κ : Int32 → Prop} (h : kd M a = some (true, .inl ci)) (q : κ (mI M a k)) : gI M ci a k κ := ⟨⟨true, h, Or.inl rfl⟩, q⟩
theorem gJ_i {M : gM} {ci a k : Nat} {κ : Int64 → Prop} (h : kd M a = some (true, .inl ci)) (q : κ (mJ M a k)) : gJ M ci a k κ := ⟨⟨true, h, Or.inl rfl⟩, q⟩
theorem gR_i {M : gM} {ci a k : Nat} {κ : Option Nat → Prop} (h : kd M a = some (true, .inl ci)) (q : κ (mR M a k)) : gR M ci a k κ := ⟨⟨true, h, Or.inl rfl⟩, q⟩
theorem rc_i {M : gM} {ci a : Nat} {A : Prop} (h : kd M a = some (true, .inl ci)) (q : A) : rc M ci a ∧ A := ⟨⟨true, h⟩, q⟩
theorem aI_i {M : gM} {ty : FieldType} {a n i : Nat} {w : Bool} {κ : Int32 → Prop} (h : kd M a = some (w, .inr (ty, n))) (hi : i < n) (hb : i < 2147483648) (q : κ (mI M a i)) : aI M ty a (Int32.ofNat i) κ := ⟨⟨w, n, h, by rw [vp_inN hb]; exact hi⟩, by rw [i32_nat hb]; exact q⟩
theorem aJ_i {M : gM} {a n i : Nat} {w : Bool} {κ : Int64 → Prop} (h : kd M a = some (w, .inr (.long, n))) (hi : i < n) (hb : i < 2147483648) (q : κ (mJ M a i)) : aJ M a (Int32.ofNat i) κ := ⟨⟨w, n, h, by rw [vp_inN hb]; exact hi⟩, by rw [i32_nat hb]; exact q⟩
theorem aN_i {M : gM} {ty : FieldType} {a n i b : Nat} {w : Bool} {κ : Nat → Prop} (h : kd M a = some (w, .inr (ty, n))) (hi : i < n) (hb : i < 2147483648) (hr : mR M a i = some b) (q : κ b) : aN M ty a (Int32.ofNat i) κ := ⟨⟨w, n, h, by rw [vp_inN hb]; exact hi⟩, b, by rw [i32_nat hb]; exact hr, q⟩
theorem uI_i {M : gM} {a n i : Nat} {x : Int32} {κ : gM → Prop} (h : kd M a = some (true, .inr (.int, n))) (hi : i < n) (hb : i < 2147483648) (q : κ (sI M a i x)) : uI M a (Int32.ofNat i) x κ := ⟨⟨n, h, by rw [vp_inN hb]; exact hi⟩, by rw [i32_nat hb]; exact q⟩
theorem uJ_i {M : gM} {a n i : Nat} {x : Int64} {κ : gM → Prop} (h : kd M a = some (true, .inr (.long, n))) (hi : i < n) (hb : i < 2147483648) (q : κ (sJ M a i x)) : uJ M a (Int32.ofNat i) x κ := ⟨⟨n, h, by rw [vp_inN hb]; exact hi⟩, by rw [i32_nat hb]; exact q⟩
