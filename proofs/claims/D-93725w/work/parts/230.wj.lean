set_option maxRecDepth 100000
set_option maxHeartbeats 1000000
abbrev rm_J16_canEncode : Room := { frames := 0, cells := 0, slots := 0, locals := 0 }
def F_J16_canEncode  (M : gM) (x0 : Int32) (Q : Int32 → gM → Prop)  : Prop :=
  (((255 : Int32) < x0 →
    Q (0 : Int32) M) ∧
    (¬ (255 : Int32) < x0 →
    Q (1 : Int32) M))
theorem met_J16_canEncode {M : gM} {x0 : Int32} {Q : Int32 → gM → Prop} (hF : F_J16_canEncode M x0 Q) : gMt yJ16_canEncode (ws_ yJ16_canEncode cJ16_canEncode 1 (some .boolean)) rm_J16_canEncode M [.int x0] (gQi Q) := by
  refine gMet (bytes := cJ16_canEncode) (maxL := 1) (ret := (some .boolean)) rfl rfl (by decide) (Nat.le_of_ble_eq_true rfl) (lv := [(0, .int x0)]) rfl (fun G hC hin => ?_)
  unfold F_J16_canEncode at hF
  refine g_iload_n 1 hC dJ16_canEncode_0 rfl 0 rfl rfl ?_
  refine g_sipush 4 hC (255 : Int32) dJ16_canEncode_1 (by decide) rfl ?_
  refine g_icmp_gt 7 11 hC dJ16_canEncode_4 (by decide) rfl (fun c => ?_) (fun c => ?_)
  · have hF := hF.1 c
    refine g_iconst 12 hC (0 : Int32) dJ16_canEncode_11 (by decide) rfl ?_
    exact g_zreturn hC ⟨_, rfl, hF⟩ (Or.inl rfl) dJ16_canEncode_12 (Nat.zero_le _) (Nat.zero_le _)
  · have hF := hF.2 c
    refine g_iconst 8 hC (1 : Int32) dJ16_canEncode_7 (by decide) rfl ?_
    refine g_goto 12 hC dJ16_canEncode_8 (by decide) ?_
    exact g_zreturn hC ⟨_, rfl, hF⟩ (Or.inr rfl) dJ16_canEncode_12 (Nat.zero_le _) (Nat.zero_le _)
abbrev rm_J15_copyOf (Lc Ls : Nat) : Room := { frames := 1, cells := Lc, slots := Ls, locals := 72 }
def F_J15_copyOf (Lc Ls : Nat) (M : gM) (a0 : Nat) (x1 : Int32) (Q : Nat → gM → Prop)  : Prop :=
  aL M a0 fun x_1 =>
  ((¬ x1 = x_1 →
    nA M 0 0 Lc Ls .byte x1 x1.toNatClampNeg fun a_2 M_3 =>
    aL M_3 a0 fun x_4 =>
    aCp M_3 a0 (0 : Int32) a_2 (0 : Int32) (if x1 < x_4 then x1 else x_4) fun M_5 =>
    Q a_2 M_5) ∧
    (x1 = x_1 →
    nC M 0 0 Lc Ls .byte a0 fun n_8 a_7 M_6 =>
    cY M_6 a_7 "[B" ∧
    Q a_7 M_6))
theorem met_J15_copyOf {M : gM} {a0 : Nat} {x1 : Int32} {Q : Nat → gM → Prop} {Lc Ls : Nat} (hF : F_J15_copyOf Lc Ls M a0 x1 Q) : gMt yJ15_copyOf (ws_ yJ15_copyOf cJ15_copyOf 3 (some (.array .byte))) (rm_J15_copyOf Lc Ls) M [.ref a0, .int x1] (gQa Q) := by
  refine gMet (bytes := cJ15_copyOf) (maxL := 3) (ret := (some (.array .byte))) rfl rfl (by decide) (Nat.le_of_ble_eq_true rfl) (lv := [(0, .ref a0), (1, .int x1)]) rfl (fun G hC hin => ?_)
  have hu : 0 ≤ Lc ∧ 0 ≤ Ls := ⟨Nat.zero_le _, Nat.zero_le _⟩
  unfold F_J15_copyOf at hF
  refine g_iload_n 1 hC dJ15_copyOf_0 rfl 1 rfl rfl ?_
  refine g_aload_n 2 hC dJ15_copyOf_1 rfl 0 rfl rfl ?_
  refine g_alen 3 hC hF dJ15_copyOf_2 rfl (fun x_1 hF => ?_)
  refine g_icmp_ne 6 14 hC dJ15_copyOf_3 (by decide) rfl (fun c => ?_) (fun c => ?_)
  · have hF := hF.1 c
    refine g_iload_n 15 hC dJ15_copyOf_14 rfl 1 rfl rfl ?_
    have hu := hF.2.1
    refine g_newa 17 hC (ty := .byte) rfl (by decide) (fun _ _ h => h) (by decide) (by decide) q254 hF dJ15_copyOf_15 rfl (fun a_2 M_3 hF => ?_)
    refine g_astore_n 18 hC (lv' := [(2, .ref _), (0, .ref _), (1, .int _)]) dJ15_copyOf_17 rfl rfl (by decide) rfl ?_
    refine g_aload_n 19 hC dJ15_copyOf_18 rfl 1 rfl rfl ?_
    refine g_iconst 20 hC (0 : Int32) dJ15_copyOf_19 (by decide) rfl ?_
    refine g_aload_n 21 hC dJ15_copyOf_20 rfl 0 rfl rfl ?_
    refine g_iconst 22 hC (0 : Int32) dJ15_copyOf_21 (by decide) rfl ?_
    refine g_aload_n 23 hC dJ15_copyOf_22 rfl 1 rfl rfl ?_
    refine g_alen 24 hC hF dJ15_copyOf_23 rfl (fun x_4 hF => ?_)
    refine g_iload_n 25 hC dJ15_copyOf_24 rfl 2 rfl rfl ?_
    refine g_min 28 hC q756 (Nat.le_of_ble_eq_true rfl) (Nat.le_of_ble_eq_true rfl) hu dJ15_copyOf_25 rfl ?_
    refine g_copyW 31 hC q759 hF (Nat.le_of_ble_eq_true rfl) (Nat.le_of_ble_eq_true rfl) dJ15_copyOf_28 rfl (fun M_5 hF => ?_)
    refine g_aload_n 32 hC dJ15_copyOf_31 rfl 0 rfl rfl ?_
    exact g_areturn (v := some a_2) hC (Or.inr ⟨_, rfl⟩) ⟨_, rfl, hF⟩ dJ15_copyOf_32 hu.1 hu.2
  · have hF := hF.2 c
    refine g_aload_n 7 hC dJ15_copyOf_6 rfl 0 rfl rfl ?_
    refine g_clone (ty := .byte) (ad := "[B") 10 hC (by decide +kernel) q754 q478 q481 q482 hF (Nat.le_of_ble_eq_true rfl) (Nat.le_of_ble_eq_true rfl) dJ15_copyOf_7 rfl (fun n_8 a_7 M_6 hu hF => ?_)
    refine g_cast 13 hC q755 hF.1 dJ15_copyOf_10 rfl ?_
    have hF := hF.2
    exact g_areturn (v := some a_7) hC (Or.inr ⟨_, rfl⟩) ⟨_, rfl, hF⟩ dJ15_copyOf_13 hu.1 hu.2
abbrev rm_J13_newLength : Room := { frames := 1, cells := 0, slots := 0, locals := 24 }
def F_J13_newLength_b21 (Q : Int32 → gM → Prop)    (x0 : Int32) (x1 : Int32)   (M : gM) : Prop :=
  False
theorem w_J13_newLength_b21 {G : gG} {Q : Int32 → gM → Prop} (hC : gCx G cJ13_newLength 4 RJ13 (some .int) (gQi Q) rm_J13_newLength)  (x0 : Int32) (x1 : Int32)     (M : gM) (hF : F_J13_newLength_b21 Q x0 x1 M) : gAt G 0 0 M [(0, .int x0), (1, .int x1)] 21 [] := by
  unfold F_J13_newLength_b21 at hF
  refine g_iload_n 22 hC dJ13_newLength_21 rfl 0 rfl rfl ?_
  refine g_iload_n 23 hC dJ13_newLength_22 rfl 1 rfl rfl ?_
  exact hF.elim -- callee J13_hugeLength not walked
def F_J13_newLength  (M : gM) (x0 : Int32) (x1 : Int32) (x2 : Int32) (Q : Int32 → gM → Prop)  : Prop :=
  (((x0 + (if x1 < x2 then x2 else x1)) ≤ (0 : Int32) →
    F_J13_newLength_b21 Q x0 x1 M) ∧
    (¬ (x0 + (if x1 < x2 then x2 else x1)) ≤ (0 : Int32) →
    (((2147483639 : Int32) < (x0 + (if x1 < x2 then x2 else x1)) →
      F_J13_newLength_b21 Q x0 x1 M) ∧
      (¬ (2147483639 : Int32) < (x0 + (if x1 < x2 then x2 else x1)) →
      Q (x0 + (if x1 < x2 then x2 else x1)) M))))
theorem met_J13_newLength {M : gM} {x0 : Int32} {x1 : Int32} {x2 : Int32} {Q : Int32 → gM → Prop} (hF : F_J13_newLength M x0 x1 x2 Q) : gMt yJ13_newLength (ws_ yJ13_newLength cJ13_newLength 4 (some .int)) rm_J13_newLength M [.int x0, .int x1, .int x2] (gQi Q) := by
  refine gMet (bytes := cJ13_newLength) (maxL := 4) (ret := (some .int)) rfl rfl (by decide) (Nat.le_of_ble_eq_true rfl) (lv := [(0, .int x0), (1, .int x1), (2, .int x2)]) rfl (fun G hC hin => ?_)
  unfold F_J13_newLength at hF
  refine g_iload_n 1 hC dJ13_newLength_0 rfl 0 rfl rfl ?_
  refine g_iload_n 2 hC dJ13_newLength_1 rfl 1 rfl rfl ?_
  refine g_iload_n 3 hC dJ13_newLength_2 rfl 2 rfl rfl ?_
  refine g_max 6 hC q743 (Nat.le_of_ble_eq_true rfl) (Nat.le_of_ble_eq_true rfl) ⟨Nat.zero_le _, Nat.zero_le _⟩ dJ13_newLength_3 rfl ?_
  refine g_iadd 7 hC dJ13_newLength_6 rfl ?_
  refine g_istore_n 8 hC (lv' := [(3, .int _), (0, .int _), (1, .int _), (2, .int _)]) dJ13_newLength_7 rfl rfl (by decide) rfl ?_
  refine g_iconst 9 hC (0 : Int32) dJ13_newLength_8 (by decide) rfl ?_
  refine g_iload_n 10 hC dJ13_newLength_9 rfl 0 rfl rfl ?_
  refine g_icmp_ge 13 21 hC dJ13_newLength_10 (by decide) rfl (fun c => ?_) (fun c => ?_)
  · have hF := hF.1 c
    refine g_sub [1, 2] rfl ?_
    exact w_J13_newLength_b21 hC _ _ _ hF
  · have hF := hF.2 c
    refine g_iload_n 14 hC dJ13_newLength_13 rfl 0 rfl rfl ?_
    refine g_ldc 16 hC q746 dJ13_newLength_14 rfl ?_
    refine g_icmp_gt 19 21 hC dJ13_newLength_16 (by decide) rfl (fun c => ?_) (fun c => ?_)
    · have hF := hF.1 c
      refine g_sub [1, 2] rfl ?_
      exact w_J13_newLength_b21 hC _ _ _ hF
    · have hF := hF.2 c
      refine g_iload_n 20 hC dJ13_newLength_19 rfl 0 rfl rfl ?_
      exact g_ireturn hC ⟨_, rfl, hF⟩ dJ13_newLength_20 (Nat.zero_le _) (Nat.zero_le _)
theorem gf_J10_15_16N {G : gG} {cc : ByteArray} {nL : Nat} {ret : Option FieldType} {Qf : Option Value → gM → Prop} {rm : Room} {cells slots : Nat} {M : gM} {lv : List (Nat × Value)} {pc : Nat} {st : List Value} {a : Nat} (n : Nat) (hC : gCx G cc nL RJ10 ret Qf rm) {κ : Nat → Prop} (hF : gN M 16 a 0 κ) (hdg : decode cc pc = .ok (.getfield 15, 3)) (hn : pc + 3 = n) (kk : ∀ x, κ x → gAt G cells slots M lv n (.ref x :: st)) : gAt G cells slots M lv pc (.ref a :: st) :=
  g_getN (C := RJ11) (T := TJ11) (N := 4) in_J11 rfl (by decide) q712 (fun _ _ _ => rfl) n hC hF hdg hn kk
theorem gf_J10_22_16I {G : gG} {cc : ByteArray} {nL : Nat} {ret : Option FieldType} {Qf : Option Value → gM → Prop} {rm : Room} {cells slots : Nat} {M : gM} {lv : List (Nat × Value)} {pc : Nat} {st : List Value} {a : Nat} (n : Nat) (hC : gCx G cc nL RJ10 ret Qf rm) {κ : Int32 → Prop} (hF : gI M 16 a 1 κ) (hdg : decode cc pc = .ok (.getfield 22, 3)) (hn : pc + 3 = n) (kk : ∀ x, κ x → gAt G cells slots M lv n (.int x :: st)) : gAt G cells slots M lv pc (.ref a :: st) :=
  g_getI (C := RJ11) (T := TJ11) (N := 4) in_J11 rfl (by decide) q713 (fun _ _ _ => rfl) n hC hF hdg hn kk
theorem hd_J13_newLength : yJ13_newLength.cls ≠ "java/lang/invoke/MethodHandle" ∧ yJ13_newLength.cls ≠ "java/lang/invoke/VarHandle" ∧ (parseMethodDescriptor yJ13_newLength.desc).map (fun d => d.parameters.length) = some 3 := by decide +kernel
theorem wl_J10_114 : GoodIn lw_all (va_wsS RJ10 114 yJ13_newLength (ws_ yJ13_newLength cJ13_newLength 4 (some .int))) := lw_S q740 q741 q96 q742
abbrev rm_J10_newCapacity_J11 : Room := { frames := 2, cells := 0, slots := 0, locals := 47 }
def F_J10_newCapacity_J11  (M : gM) (a0 : Nat) (x1 : Int32) (Q : Int32 → gM → Prop)  : Prop :=
  gN M 16 a0 0 fun a_1 =>
  aL M a_1 fun x_2 =>
  gI M 16 a0 1 fun x_3 =>
  gI M 16 a0 1 fun x_4 =>
  F_J13_newLength M x_2 ((x1 <<< (x_3 &&& 31)) - x_2) (x_2 + ((2 : Int32) <<< (x_4 &&& 31))) fun x_6 M_5 =>
  ((¬ x_6 = (2147483647 : Int32) →
    gI M_5 16 a0 1 fun x_7 =>
    Q (x_6 >>> (x_7 &&& 31)) M_5) ∧
    (x_6 = (2147483647 : Int32) →
    False))
theorem met_J10_newCapacity_J11 {M : gM} {a0 : Nat} {x1 : Int32} {Q : Int32 → gM → Prop} (hF : F_J10_newCapacity_J11 M a0 x1 Q) : gMt yJ10_newCapacity (ws_ yJ10_newCapacity cJ10_newCapacity 6 (some .int)) rm_J10_newCapacity_J11 M [.ref a0, .int x1] (gQi Q) := by
  refine gMet (bytes := cJ10_newCapacity) (maxL := 6) (ret := (some .int)) rfl rfl (by decide) (Nat.le_of_ble_eq_true rfl) (lv := [(0, .ref a0), (1, .int x1)]) rfl (fun G hC hin => ?_)
  unfold F_J10_newCapacity_J11 at hF
  refine g_aload_n 1 hC dJ10_newCapacity_0 rfl 0 rfl rfl ?_
  refine gf_J10_15_16N 4 hC hF dJ10_newCapacity_1 rfl (fun a_1 hF => ?_)
  refine g_alen 5 hC hF dJ10_newCapacity_4 rfl (fun x_2 hF => ?_)
  refine g_istore_n 6 hC (lv' := [(2, .int _), (0, .ref _), (1, .int _)]) dJ10_newCapacity_5 rfl rfl (by decide) rfl ?_
  refine g_iload_n 7 hC dJ10_newCapacity_6 rfl 2 rfl rfl ?_
  refine g_aload_n 8 hC dJ10_newCapacity_7 rfl 1 rfl rfl ?_
  refine gf_J10_22_16I 11 hC hF dJ10_newCapacity_8 rfl (fun x_3 hF => ?_)
  refine g_ishl 12 hC dJ10_newCapacity_11 rfl ?_
  refine g_istore_n 13 hC (lv' := [(3, .int _), (2, .int _), (0, .ref _), (1, .int _)]) dJ10_newCapacity_12 rfl rfl (by decide) rfl ?_
  refine g_iload_n 14 hC dJ10_newCapacity_13 rfl 0 rfl rfl ?_
  refine g_iload_n 15 hC dJ10_newCapacity_14 rfl 1 rfl rfl ?_
  refine g_isub 16 hC dJ10_newCapacity_15 rfl ?_
  refine g_istore 18 hC (lv' := [(4, .int _), (3, .int _), (2, .int _), (0, .ref _), (1, .int _)]) dJ10_newCapacity_16 rfl (by decide) rfl ?_
  refine g_iload_n 19 hC dJ10_newCapacity_18 rfl 2 rfl rfl ?_
  refine g_iload 21 hC dJ10_newCapacity_19 rfl 0 rfl ?_
  refine g_iload_n 22 hC dJ10_newCapacity_21 rfl 2 rfl rfl ?_
  refine g_iconst 23 hC (2 : Int32) dJ10_newCapacity_22 (by decide) rfl ?_
  refine g_aload_n 24 hC dJ10_newCapacity_23 rfl 3 rfl rfl ?_
  refine gf_J10_22_16I 27 hC hF dJ10_newCapacity_24 rfl (fun x_4 hF => ?_)
  refine g_ishl 28 hC dJ10_newCapacity_27 rfl ?_
  refine g_iadd 29 hC dJ10_newCapacity_28 rfl ?_
  refine g_cS (rest := []) wl_J10_114 hd_J13_newLength 32 hC (met_J13_newLength hF) rfl ⟨Nat.le_of_ble_eq_true rfl, Nat.le_of_ble_eq_true rfl⟩ ⟨Nat.zero_le _, Nat.zero_le _⟩ rfl (Nat.le_of_ble_eq_true rfl) dJ10_newCapacity_29 rfl (g_ty_i 0 0 (Nat.le_refl _) (Nat.le_refl _) (fun x_6 M_5 hF => ?_))
  refine g_istore 34 hC (lv' := [(5, .int _), (4, .int _), (3, .int _), (2, .int _), (0, .ref _), (1, .int _)]) dJ10_newCapacity_32 rfl (by decide) rfl ?_
  refine g_iload 36 hC dJ10_newCapacity_34 rfl 0 rfl ?_
  refine g_ldc 38 hC q750 dJ10_newCapacity_36 rfl ?_
  refine g_icmp_ne 41 51 hC dJ10_newCapacity_38 (by decide) rfl (fun c => ?_) (fun c => ?_)
  · have hF := hF.1 c
    refine g_iload 53 hC dJ10_newCapacity_51 rfl 0 rfl ?_
    refine g_aload_n 54 hC dJ10_newCapacity_53 rfl 4 rfl rfl ?_
    refine gf_J10_22_16I 57 hC hF dJ10_newCapacity_54 rfl (fun x_7 hF => ?_)
    refine g_ishr 58 hC dJ10_newCapacity_57 rfl ?_
    exact g_ireturn hC ⟨_, rfl, hF⟩ dJ10_newCapacity_58 (Nat.zero_le _) (Nat.zero_le _)
  · have hF := hF.2 c
    exact hF.elim -- new of an unlinked class
abbrev rm_J10_isLatin1_J11 : Room := { frames := 0, cells := 0, slots := 0, locals := 0 }
def F_J10_isLatin1_J11  (M : gM) (a0 : Nat) (Q : Int32 → gM → Prop)  : Prop :=
  (((1 : Int32) = 0 →
    Q (0 : Int32) M) ∧
    (¬ (1 : Int32) = 0 →
    gI M 16 a0 1 fun x_1 =>
    ((¬ x_1 = 0 →
      Q (0 : Int32) M) ∧
      (x_1 = 0 →
      Q (1 : Int32) M))))
theorem met_J10_isLatin1_J11 {M : gM} {a0 : Nat} {Q : Int32 → gM → Prop} (hF : F_J10_isLatin1_J11 M a0 Q) : gMt yJ10_isLatin1 (ws_ yJ10_isLatin1 cJ10_isLatin1 1 (some .boolean)) rm_J10_isLatin1_J11 M [.ref a0] (gQi Q) := by
  refine gMet (bytes := cJ10_isLatin1) (maxL := 1) (ret := (some .boolean)) rfl rfl (by decide) (Nat.le_of_ble_eq_true rfl) (lv := [(0, .ref a0)]) rfl (fun G hC hin => ?_)
  unfold F_J10_isLatin1_J11 at hF
  refine g_gets 3 hC sz_compact q698 dJ10_isLatin1_0 rfl ?_
  refine g_if_eq 6 17 hC dJ10_isLatin1_3 (by decide) rfl (fun c => ?_) (fun c => ?_)
  · have hF := hF.1 c
    refine g_iconst 18 hC (0 : Int32) dJ10_isLatin1_17 (by decide) rfl ?_
    exact g_zreturn hC ⟨_, rfl, hF⟩ (Or.inl rfl) dJ10_isLatin1_18 (Nat.zero_le _) (Nat.zero_le _)
  · have hF := hF.2 c
    refine g_aload_n 7 hC dJ10_isLatin1_6 rfl 0 rfl rfl ?_
    refine gf_J10_22_16I 10 hC hF dJ10_isLatin1_7 rfl (fun x_1 hF => ?_)
    refine g_if_ne 13 17 hC dJ10_isLatin1_10 (by decide) rfl (fun c => ?_) (fun c => ?_)
    · have hF := hF.1 c
      refine g_iconst 18 hC (0 : Int32) dJ10_isLatin1_17 (by decide) rfl ?_
      exact g_zreturn hC ⟨_, rfl, hF⟩ (Or.inl rfl) dJ10_isLatin1_18 (Nat.zero_le _) (Nat.zero_le _)
    · have hF := hF.2 c
      refine g_iconst 14 hC (1 : Int32) dJ10_isLatin1_13 (by decide) rfl ?_
      refine g_goto 18 hC dJ10_isLatin1_14 (by decide) ?_
      exact g_zreturn hC ⟨_, rfl, hF⟩ (Or.inr rfl) dJ10_isLatin1_18 (Nat.zero_le _) (Nat.zero_le _)
theorem hd_J10_newCapacity : yJ10_newCapacity.cls = RJ10 ∧ yJ10_newCapacity.cls ≠ "java/lang/invoke/MethodHandle" ∧ yJ10_newCapacity.cls ≠ "java/lang/invoke/VarHandle" ∧ (parseMethodDescriptor yJ10_newCapacity.desc).map (fun d => d.parameters.length) = some 1 := by decide +kernel
-- private ⟨"java/lang/AbstractStringBuilder", "newCapacity", "(I)I"⟩
theorem hd_J15_copyOf : yJ15_copyOf.cls ≠ "java/lang/invoke/MethodHandle" ∧ yJ15_copyOf.cls ≠ "java/lang/invoke/VarHandle" ∧ (parseMethodDescriptor yJ15_copyOf.desc).map (fun d => d.parameters.length) = some 2 := by decide +kernel
theorem wl_J10_108 : GoodIn lw_all (va_wsS RJ10 108 yJ15_copyOf (ws_ yJ15_copyOf cJ15_copyOf 3 (some (.array .byte)))) := lw_S q751 q752 q98 q753
abbrev rm_J10_ensureCapacityInternal_J11 (Lc Ls : Nat) : Room := { frames := 3, cells := Lc, slots := Ls, locals := 94 }
def F_J10_ensureCapacityInternal_J11 (Lc Ls : Nat) (M : gM) (a0 : Nat) (x1 : Int32) (Q : gM → Prop)  : Prop :=
  gN M 16 a0 0 fun a_1 =>
  aL M a_1 fun x_2 =>
  gI M 16 a0 1 fun x_3 =>
  (((x1 - (x_2 >>> (x_3 &&& 31))) ≤ 0 →
    Q M) ∧
    (¬ (x1 - (x_2 >>> (x_3 &&& 31))) ≤ 0 →
    gN M 16 a0 0 fun a_4 =>
    rc M 16 a0 ∧ F_J10_newCapacity_J11 M a0 x1 fun x_6 M_5 =>
    gI M_5 16 a0 1 fun x_7 =>
    ∃ c_10 s_11, (0 + c_10 ≤ Lc ∧ 0 + s_11 ≤ Ls) ∧
    F_J15_copyOf c_10 s_11 M_5 a_4 (x_6 <<< (x_7 &&& 31)) fun a_9 M_8 =>
    pR M_8 16 a0 0 (some a_9) fun M_12 =>
    Q M_12))
theorem met_J10_ensureCapacityInternal_J11 {M : gM} {a0 : Nat} {x1 : Int32} {Q : gM → Prop} {Lc Ls : Nat} (hF : F_J10_ensureCapacityInternal_J11 Lc Ls M a0 x1 Q) : gMt yJ10_ensureCapacityInternal (ws_ yJ10_ensureCapacityInternal cJ10_ensureCapacityInternal 3 none) (rm_J10_ensureCapacityInternal_J11 Lc Ls) M [.ref a0, .int x1] (gQv Q) := by
  refine gMet (bytes := cJ10_ensureCapacityInternal) (maxL := 3) (ret := none) rfl rfl (by decide) (Nat.le_of_ble_eq_true rfl) (lv := [(0, .ref a0), (1, .int x1)]) rfl (fun G hC hin => ?_)
  have hu : 0 ≤ Lc ∧ 0 ≤ Ls := ⟨Nat.zero_le _, Nat.zero_le _⟩
  unfold F_J10_ensureCapacityInternal_J11 at hF
  refine g_aload_n 1 hC dJ10_ensureCapacityInternal_0 rfl 0 rfl rfl ?_
  refine gf_J10_15_16N 4 hC hF dJ10_ensureCapacityInternal_1 rfl (fun a_1 hF => ?_)
  refine g_alen 5 hC hF dJ10_ensureCapacityInternal_4 rfl (fun x_2 hF => ?_)
  refine g_aload_n 6 hC dJ10_ensureCapacityInternal_5 rfl 0 rfl rfl ?_
  refine gf_J10_22_16I 9 hC hF dJ10_ensureCapacityInternal_6 rfl (fun x_3 hF => ?_)
  refine g_ishr 10 hC dJ10_ensureCapacityInternal_9 rfl ?_
  refine g_istore_n 11 hC (lv' := [(2, .int _), (0, .ref _), (1, .int _)]) dJ10_ensureCapacityInternal_10 rfl rfl (by decide) rfl ?_
  refine g_iload_n 12 hC dJ10_ensureCapacityInternal_11 rfl 2 rfl rfl ?_
  refine g_iload_n 13 hC dJ10_ensureCapacityInternal_12 rfl 0 rfl rfl ?_
  refine g_isub 14 hC dJ10_ensureCapacityInternal_13 rfl ?_
  refine g_if_le 17 38 hC dJ10_ensureCapacityInternal_14 (by decide) rfl (fun c => ?_) (fun c => ?_)
  · have hF := hF.1 c
    exact g_return hC ⟨rfl, hF⟩ dJ10_ensureCapacityInternal_38 hu.1 hu.2
  · have hF := hF.2 c
    refine g_aload_n 18 hC dJ10_ensureCapacityInternal_17 rfl 1 rfl rfl ?_
    refine g_aload_n 19 hC dJ10_ensureCapacityInternal_18 rfl 1 rfl rfl ?_
    refine gf_J10_15_16N 22 hC hF dJ10_ensureCapacityInternal_19 rfl (fun a_4 hF => ?_)
    refine g_aload_n 23 hC dJ10_ensureCapacityInternal_22 rfl 1 rfl rfl ?_
    refine g_iload_n 24 hC dJ10_ensureCapacityInternal_23 rfl 2 rfl rfl ?_
    refine g_cP (rest := [_, _]) q736 q1951 q737 q738 q739 q93 hd_J10_newCapacity.2 (ci := 16) rfl 27 hC hF.1 (met_J10_newCapacity_J11 hF.2) rfl ⟨Nat.le_of_ble_eq_true rfl, Nat.le_of_ble_eq_true rfl⟩ hu rfl (Nat.le_of_ble_eq_true rfl) dJ10_ensureCapacityInternal_24 rfl (g_ty_i 0 0 (Nat.le_refl _) (Nat.le_refl _) (fun x_6 M_5 hF => ?_))
    refine g_aload_n 28 hC dJ10_ensureCapacityInternal_27 rfl 1 rfl rfl ?_
    refine gf_J10_22_16I 31 hC hF dJ10_ensureCapacityInternal_28 rfl (fun x_7 hF => ?_)
    refine g_ishl 32 hC dJ10_ensureCapacityInternal_31 rfl ?_
    obtain ⟨c_10, s_11, hu, hF⟩ := hF
    refine g_cS (rest := [_]) wl_J10_108 hd_J15_copyOf 35 hC (met_J15_copyOf hF) rfl ⟨Nat.le_of_ble_eq_true rfl, Nat.le_of_ble_eq_true rfl⟩ hu rfl (Nat.le_of_ble_eq_true rfl) dJ10_ensureCapacityInternal_32 rfl (g_ty_a (0 + c_10) (0 + s_11) (Nat.le_refl _) (Nat.le_refl _) (fun a_9 M_8 hF => ?_))
    refine g_putR (C := RJ11) (T := TJ11) (N := 4) (ci := 16) (k := 0) (ty := (.array .byte)) in_J11 tyJ11 tyJ11_ok nmJ11 rfl (by decide) q712 rfl rfl (fun _ _ _ => rfl) (g_narR _ _ (by decide)) (g_fitR _ _ (by decide)) 38 hC hF dJ10_ensureCapacityInternal_35 rfl (fun M_12 hF => ?_)
    exact g_return hC ⟨rfl, hF⟩ dJ10_ensureCapacityInternal_38 hu.1 hu.2
abbrev rm_J10_init_J11 (Lc Ls : Nat) : Room := { frames := 1, cells := Lc, slots := Ls, locals := 24 }
def F_J10_init_J11 (Lc Ls : Nat) (M : gM) (a0 : Nat) (x1 : Int32) (Q : gM → Prop)  : Prop :=
  (((1 : Int32) = 0 →
    False) ∧
    (¬ (1 : Int32) = 0 →
    nA M 0 0 Lc Ls .byte x1 x1.toNatClampNeg fun a_5 M_6 =>
    pR M_6 16 a0 0 (some a_5) fun M_7 =>
    pI M_7 16 a0 1 (0 : Int32) fun M_8 =>
    Q M_8))
theorem met_J10_init_J11 {M : gM} {a0 : Nat} {x1 : Int32} {Q : gM → Prop} {Lc Ls : Nat} (hF : F_J10_init_J11 Lc Ls M a0 x1 Q) : gMt yJ10_init (ws_ yJ10_init cJ10_init 2 none) (rm_J10_init_J11 Lc Ls) M [.ref a0, .int x1] (gQv Q) := by
  refine gMet (bytes := cJ10_init) (maxL := 2) (ret := none) rfl rfl (by decide) (Nat.le_of_ble_eq_true rfl) (lv := [(0, .ref a0), (1, .int x1)]) rfl (fun G hC hin => ?_)
  have hu : 0 ≤ Lc ∧ 0 ≤ Ls := ⟨Nat.zero_le _, Nat.zero_le _⟩
  unfold F_J10_init_J11 at hF
  refine g_aload_n 1 hC dJ10_init_0 rfl 0 rfl rfl ?_
  refine g_objInit 4 hC q697 q109 q110 (Nat.le_of_ble_eq_true rfl) (Nat.le_of_ble_eq_true rfl) dJ10_init_1 rfl ?_
  refine g_gets 7 hC sz_compact q698 dJ10_init_4 rfl ?_
  refine g_if_eq 10 25 hC dJ10_init_7 (by decide) rfl (fun c => ?_) (fun c => ?_)
  · have hF := hF.1 c
    refine g_aload_n 26 hC dJ10_init_25 rfl 0 rfl rfl ?_
    refine g_iload_n 27 hC dJ10_init_26 rfl 1 rfl rfl ?_
    exact hF.elim -- callee J12_newBytesFor not walked
  · have hF := hF.2 c
    refine g_aload_n 11 hC dJ10_init_10 rfl 0 rfl rfl ?_
    refine g_iload_n 12 hC dJ10_init_11 rfl 1 rfl rfl ?_
    have hu := hF.2.1
    refine g_newa 14 hC (ty := .byte) rfl (by decide) (fun _ _ h => h) (by decide) (by decide) q254 hF dJ10_init_12 rfl (fun a_5 M_6 hF => ?_)
    refine g_putR (C := RJ11) (T := TJ11) (N := 4) (ci := 16) (k := 0) (ty := (.array .byte)) in_J11 tyJ11 tyJ11_ok nmJ11 rfl (by decide) q712 rfl rfl (fun _ _ _ => rfl) (g_narR _ _ (by decide)) (g_fitR _ _ (by decide)) 17 hC hF dJ10_init_14 rfl (fun M_7 hF => ?_)
    refine g_aload_n 18 hC dJ10_init_17 rfl 0 rfl rfl ?_
    refine g_iconst 19 hC (0 : Int32) dJ10_init_18 (by decide) rfl ?_
    refine g_putI (C := RJ11) (T := TJ11) (N := 4) (ci := 16) (k := 1) (ty := .byte) in_J11 tyJ11 tyJ11_ok nmJ11 rfl (by decide) q713 rfl rfl (fun _ _ _ => rfl) rfl rfl 22 hC hF dJ10_init_19 rfl (fun M_8 hF => ?_)
    refine g_goto 38 hC dJ10_init_22 (by decide) ?_
    exact g_return hC ⟨rfl, hF⟩ dJ10_init_38 hu.1 hu.2
theorem hd_J10_init : yJ10_init.cls ≠ "java/lang/invoke/MethodHandle" ∧ yJ10_init.cls ≠ "java/lang/invoke/VarHandle" ∧ (parseMethodDescriptor yJ10_init.desc).map (fun d => d.parameters.length) = some 1 := by decide +kernel
abbrev rm_J11_init (Lc Ls : Nat) : Room := { frames := 2, cells := Lc, slots := Ls, locals := 45 }
def F_J11_init (Lc Ls : Nat) (M : gM) (a0 : Nat) (Q : gM → Prop)  : Prop :=
  ∃ c_3 s_4, (0 + c_3 ≤ Lc ∧ 0 + s_4 ≤ Ls) ∧
  F_J10_init_J11 c_3 s_4 M a0 (16 : Int32) fun M_1 =>
  Q M_1
theorem met_J11_init {M : gM} {a0 : Nat} {Q : gM → Prop} {Lc Ls : Nat} (hF : F_J11_init Lc Ls M a0 Q) : gMt yJ11_init (ws_ yJ11_init cJ11_init 1 none) (rm_J11_init Lc Ls) M [.ref a0] (gQv Q) := by
  refine gMet (bytes := cJ11_init) (maxL := 1) (ret := none) rfl rfl (by decide) (Nat.le_of_ble_eq_true rfl) (lv := [(0, .ref a0)]) rfl (fun G hC hin => ?_)
  have hu : 0 ≤ Lc ∧ 0 ≤ Ls := ⟨Nat.zero_le _, Nat.zero_le _⟩
  unfold F_J11_init at hF
  refine g_aload_n 1 hC dJ11_init_0 rfl 0 rfl rfl ?_
  refine g_bipush 3 hC (16 : Int32) dJ11_init_1 (by decide) rfl ?_
  obtain ⟨c_3, s_4, hu, hF⟩ := hF
  refine g_cI (rest := []) q696 q93 q694 q695 rfl hd_J10_init 6 hC (met_J10_init_J11 hF) rfl ⟨Nat.le_of_ble_eq_true rfl, Nat.le_of_ble_eq_true rfl⟩ hu rfl (Nat.le_of_ble_eq_true rfl) dJ11_init_3 rfl (g_ty_v (0 + c_3) (0 + s_4) (Nat.le_refl _) (Nat.le_refl _) (fun M_1 hF => ?_))
  exact g_return hC ⟨rfl, hF⟩ dJ11_init_6 hu.1 hu.2
theorem gf_J10_79_16I {G : gG} {cc : ByteArray} {nL : Nat} {ret : Option FieldType} {Qf : Option Value → gM → Prop} {rm : Room} {cells slots : Nat} {M : gM} {lv : List (Nat × Value)} {pc : Nat} {st : List Value} {a : Nat} (n : Nat) (hC : gCx G cc nL RJ10 ret Qf rm) {κ : Int32 → Prop} (hF : gI M 16 a 3 κ) (hdg : decode cc pc = .ok (.getfield 79, 3)) (hn : pc + 3 = n) (kk : ∀ x, κ x → gAt G cells slots M lv n (.int x :: st)) : gAt G cells slots M lv pc (.ref a :: st) :=
  g_getI (C := RJ11) (T := TJ11) (N := 4) in_J11 rfl (by decide) q715 (fun _ _ _ => rfl) n hC hF hdg hn kk
theorem hd_J10_isLatin1 : yJ10_isLatin1.cls = RJ10 ∧ yJ10_isLatin1.cls ≠ "java/lang/invoke/MethodHandle" ∧ yJ10_isLatin1.cls ≠ "java/lang/invoke/VarHandle" ∧ (parseMethodDescriptor yJ10_isLatin1.desc).map (fun d => d.parameters.length) = some 0 := by decide +kernel
theorem wl_J10_83_J11 : GoodIn lw_all (va_wsU RJ10 83 RJ11 RJ10 yJ10_isLatin1 yJ10_isLatin1 (ws_ yJ10_isLatin1 cJ10_isLatin1 1 (some .boolean))) := lw_app (fun w hw => by
  simp only [List.mem_cons, List.not_mem_nil, or_false] at hw
  rcases hw with e | e | e | e | e
  · rw [e]; exact q760
  · rw [e]; exact q762
  · rw [e]; exact q763
  · rw [e]; exact q761
  · rw [e]; exact q93) (lw_meth q764)
theorem hd_J10_ensureCapacityInternal : yJ10_ensureCapacityInternal.cls = RJ10 ∧ yJ10_ensureCapacityInternal.cls ≠ "java/lang/invoke/MethodHandle" ∧ yJ10_ensureCapacityInternal.cls ≠ "java/lang/invoke/VarHandle" ∧ (parseMethodDescriptor yJ10_ensureCapacityInternal.desc).map (fun d => d.parameters.length) = some 1 := by decide +kernel
-- private ⟨"java/lang/AbstractStringBuilder", "ensureCapacityInternal", "(I)V"⟩
theorem hd_J16_canEncode : yJ16_canEncode.cls ≠ "java/lang/invoke/MethodHandle" ∧ yJ16_canEncode.cls ≠ "java/lang/invoke/VarHandle" ∧ (parseMethodDescriptor yJ16_canEncode.desc).map (fun d => d.parameters.length) = some 1 := by decide +kernel
theorem wl_J10_191 : GoodIn lw_all (va_wsS RJ10 191 yJ16_canEncode (ws_ yJ16_canEncode cJ16_canEncode 1 (some .boolean))) := lw_S q765 q766 q99 q767
abbrev rm_J10_append_J11 (Lc Ls : Nat) : Room := { frames := 4, cells := Lc, slots := Ls, locals := 116 }
def F_J10_append_J11_b56 (Q : Nat → gM → Prop)  (Lc Ls : Nat)  (a0 : Nat) (x1 : Int32)  (u v : Nat) (M : gM) : Prop :=
  gN M 16 a0 0 fun a_1 =>
  gI M 16 a0 3 fun x_2 =>
  pI M 16 a0 3 (x_2 + (1 : Int32)) fun M_3 =>
  False
theorem w_J10_append_J11_b56 {G : gG} {Q : Nat → gM → Prop} {Lc Ls : Nat} (hC : gCx G cJ10_append 2 RJ10 (some (.object "java/lang/AbstractStringBuilder")) (gQa Q) (rm_J10_append_J11 Lc Ls))  (a0 : Nat) (x1 : Int32)   (u v : Nat) (hu : u ≤ Lc ∧ v ≤ Ls) (M : gM) (hF : F_J10_append_J11_b56 Q Lc Ls a0 x1 u v M) : gAt G u v M [(0, .ref a0), (1, .int x1)] 56 [] := by
  unfold F_J10_append_J11_b56 at hF
  refine g_aload_n 57 hC dJ10_append_56 rfl 0 rfl rfl ?_
  refine gf_J10_15_16N 60 hC hF dJ10_append_57 rfl (fun a_1 hF => ?_)
  refine g_aload_n 61 hC dJ10_append_60 rfl 0 rfl rfl ?_
  refine g_dup 62 hC dJ10_append_61 rfl rfl ?_
  refine gf_J10_79_16I 65 hC hF dJ10_append_62 rfl (fun x_2 hF => ?_)
  refine g_dup_x1 66 hC dJ10_append_65 rfl rfl rfl ?_
  refine g_iconst 67 hC (1 : Int32) dJ10_append_66 (by decide) rfl ?_
  refine g_iadd 68 hC dJ10_append_67 rfl ?_
  refine g_putI (C := RJ11) (T := TJ11) (N := 4) (ci := 16) (k := 3) (ty := .int) in_J11 tyJ11 tyJ11_ok nmJ11 rfl (by decide) q715 rfl rfl (fun _ _ _ => rfl) rfl rfl 71 hC hF dJ10_append_68 rfl (fun M_3 hF => ?_)
  refine g_iload_n 72 hC dJ10_append_71 rfl 1 rfl rfl ?_
  exact hF.elim -- callee J12_putCharSB not walked
def F_J10_append_J11_b45 (Q : Nat → gM → Prop)  (Lc Ls : Nat)  (a0 : Nat) (x1 : Int32)  (u v : Nat) (M : gM) : Prop :=
  rc M 16 a0 ∧ F_J10_isLatin1_J11 M a0 fun x_2 M_1 =>
  ((x_2 = 0 →
    F_J10_append_J11_b56 Q Lc Ls a0 x1 u v M_1) ∧
    (¬ x_2 = 0 →
    False))
theorem w_J10_append_J11_b45 {G : gG} {Q : Nat → gM → Prop} {Lc Ls : Nat} (hC : gCx G cJ10_append 2 RJ10 (some (.object "java/lang/AbstractStringBuilder")) (gQa Q) (rm_J10_append_J11 Lc Ls))  (a0 : Nat) (x1 : Int32)   (u v : Nat) (hu : u ≤ Lc ∧ v ≤ Ls) (M : gM) (hF : F_J10_append_J11_b45 Q Lc Ls a0 x1 u v M) : gAt G u v M [(0, .ref a0), (1, .int x1)] 45 [] := by
  unfold F_J10_append_J11_b45 at hF
  refine g_aload_n 46 hC dJ10_append_45 rfl 0 rfl rfl ?_
  refine g_cU (rest := []) wl_J10_83_J11 rfl hd_J10_isLatin1.2 (ci := 16) rfl 49 hC hF.1 (met_J10_isLatin1_J11 hF.2) rfl ⟨Nat.le_of_ble_eq_true rfl, Nat.le_of_ble_eq_true rfl⟩ hu rfl (Nat.le_of_ble_eq_true rfl) dJ10_append_46 rfl (g_ty_i u v (Nat.le_refl _) (Nat.le_refl _) (fun x_2 M_1 hF => ?_))
  refine g_if_eq 52 56 hC dJ10_append_49 (by decide) rfl (fun c => ?_) (fun c => ?_)
  · have hF := hF.1 c
    exact w_J10_append_J11_b56 hC _ _ _ _ hu _ hF
  · have hF := hF.2 c
    refine g_aload_n 53 hC dJ10_append_52 rfl 0 rfl rfl ?_
    exact hF.elim -- callee J10_inflate_J11 not walked
def F_J10_append_J11 (Lc Ls : Nat) (M : gM) (a0 : Nat) (x1 : Int32) (Q : Nat → gM → Prop)  : Prop :=
  gI M 16 a0 3 fun x_1 =>
  ∃ c_4 s_5, (0 + c_4 ≤ Lc ∧ 0 + s_5 ≤ Ls) ∧
  rc M 16 a0 ∧ F_J10_ensureCapacityInternal_J11 c_4 s_5 M a0 (x_1 + (1 : Int32)) fun M_2 =>
  rc M_2 16 a0 ∧ F_J10_isLatin1_J11 M_2 a0 fun x_7 M_6 =>
  ((x_7 = 0 →
    F_J10_append_J11_b45 Q Lc Ls a0 x1 (0 + c_4) (0 + s_5) M_6) ∧
    (¬ x_7 = 0 →
    F_J16_canEncode M_6 x1 fun x_9 M_8 =>
    ((x_9 = 0 →
      F_J10_append_J11_b45 Q Lc Ls a0 x1 (0 + c_4) (0 + s_5) M_8) ∧
      (¬ x_9 = 0 →
      gN M_8 16 a0 0 fun a_10 =>
      gI M_8 16 a0 3 fun x_11 =>
      pI M_8 16 a0 3 (x_11 + (1 : Int32)) fun M_12 =>
      uT M_12 .byte a_10 x_11 x1.toInt8.toInt32 fun M_13 =>
      Q a0 M_13))))
theorem met_J10_append_J11 {M : gM} {a0 : Nat} {x1 : Int32} {Q : Nat → gM → Prop} {Lc Ls : Nat} (hF : F_J10_append_J11 Lc Ls M a0 x1 Q) : gMt yJ10_append (ws_ yJ10_append cJ10_append 2 (some (.object "java/lang/AbstractStringBuilder"))) (rm_J10_append_J11 Lc Ls) M [.ref a0, .int x1] (gQa Q) := by
  refine gMet (bytes := cJ10_append) (maxL := 2) (ret := (some (.object "java/lang/AbstractStringBuilder"))) rfl rfl (by decide) (Nat.le_of_ble_eq_true rfl) (lv := [(0, .ref a0), (1, .int x1)]) rfl (fun G hC hin => ?_)
  have hu : 0 ≤ Lc ∧ 0 ≤ Ls := ⟨Nat.zero_le _, Nat.zero_le _⟩
  unfold F_J10_append_J11 at hF
  refine g_aload_n 1 hC dJ10_append_0 rfl 0 rfl rfl ?_
  refine g_aload_n 2 hC dJ10_append_1 rfl 0 rfl rfl ?_
  refine gf_J10_79_16I 5 hC hF dJ10_append_2 rfl (fun x_1 hF => ?_)
  refine g_iconst 6 hC (1 : Int32) dJ10_append_5 (by decide) rfl ?_
  refine g_iadd 7 hC dJ10_append_6 rfl ?_
  obtain ⟨c_4, s_5, hu, hF⟩ := hF
  refine g_cP (rest := []) q732 q1950 q733 q734 q735 q93 hd_J10_ensureCapacityInternal.2 (ci := 16) rfl 10 hC hF.1 (met_J10_ensureCapacityInternal_J11 hF.2) rfl ⟨Nat.le_of_ble_eq_true rfl, Nat.le_of_ble_eq_true rfl⟩ hu rfl (Nat.le_of_ble_eq_true rfl) dJ10_append_7 rfl (g_ty_v (0 + c_4) (0 + s_5) (Nat.le_refl _) (Nat.le_refl _) (fun M_2 hF => ?_))
  refine g_aload_n 11 hC dJ10_append_10 rfl 0 rfl rfl ?_
  refine g_cU (rest := []) wl_J10_83_J11 rfl hd_J10_isLatin1.2 (ci := 16) rfl 14 hC hF.1 (met_J10_isLatin1_J11 hF.2) rfl ⟨Nat.le_of_ble_eq_true rfl, Nat.le_of_ble_eq_true rfl⟩ hu rfl (Nat.le_of_ble_eq_true rfl) dJ10_append_11 rfl (g_ty_i (0 + c_4) (0 + s_5) (Nat.le_refl _) (Nat.le_refl _) (fun x_7 M_6 hF => ?_))
  refine g_if_eq 17 45 hC dJ10_append_14 (by decide) rfl (fun c => ?_) (fun c => ?_)
  · have hF := hF.1 c
    exact w_J10_append_J11_b45 hC _ _ _ _ hu _ hF
  · have hF := hF.2 c
    refine g_iload_n 18 hC dJ10_append_17 rfl 1 rfl rfl ?_
    refine g_cS (rest := []) wl_J10_191 hd_J16_canEncode 21 hC (met_J16_canEncode hF) rfl ⟨Nat.le_of_ble_eq_true rfl, Nat.le_of_ble_eq_true rfl⟩ hu rfl (Nat.le_of_ble_eq_true rfl) dJ10_append_18 rfl (g_ty_i (0 + c_4) (0 + s_5) (Nat.le_refl _) (Nat.le_refl _) (fun x_9 M_8 hF => ?_))
    refine g_if_eq 24 45 hC dJ10_append_21 (by decide) rfl (fun c => ?_) (fun c => ?_)
    · have hF := hF.1 c
      exact w_J10_append_J11_b45 hC _ _ _ _ hu _ hF
    · have hF := hF.2 c
      refine g_aload_n 25 hC dJ10_append_24 rfl 0 rfl rfl ?_
      refine gf_J10_15_16N 28 hC hF dJ10_append_25 rfl (fun a_10 hF => ?_)
      refine g_aload_n 29 hC dJ10_append_28 rfl 0 rfl rfl ?_
      refine g_dup 30 hC dJ10_append_29 rfl rfl ?_
      refine gf_J10_79_16I 33 hC hF dJ10_append_30 rfl (fun x_11 hF => ?_)
      refine g_dup_x1 34 hC dJ10_append_33 rfl rfl rfl ?_
      refine g_iconst 35 hC (1 : Int32) dJ10_append_34 (by decide) rfl ?_
      refine g_iadd 36 hC dJ10_append_35 rfl ?_
      refine g_putI (C := RJ11) (T := TJ11) (N := 4) (ci := 16) (k := 3) (ty := .int) in_J11 tyJ11 tyJ11_ok nmJ11 rfl (by decide) q715 rfl rfl (fun _ _ _ => rfl) rfl rfl 39 hC hF dJ10_append_36 rfl (fun M_12 hF => ?_)
      refine g_iload_n 40 hC dJ10_append_39 rfl 1 rfl rfl ?_
      refine g_i2b 41 hC dJ10_append_40 rfl ?_
      refine g_tast 42 W.bast (by decide) (fun _ _ _ => rfl) (fun _ => rfl) hC hF dJ10_append_41 rfl (fun M_13 hF => ?_)
      refine g_goto 75 hC dJ10_append_42 (by decide) ?_
      refine g_aload_n 76 hC dJ10_append_75 rfl 0 rfl rfl ?_
      exact g_areturn (v := some a0) hC (Or.inl ⟨_, rfl⟩) ⟨_, rfl, hF⟩ dJ10_append_76 hu.1 hu.2
theorem hd_J10_append : yJ10_append.cls = RJ10 ∧ yJ10_append.cls ≠ "java/lang/invoke/MethodHandle" ∧ yJ10_append.cls ≠ "java/lang/invoke/VarHandle" ∧ (parseMethodDescriptor yJ10_append.desc).map (fun d => d.parameters.length) = some 1 := by decide +kernel
theorem wl_J11_50 : GoodIn lw_all (va_wsSU RJ11 50 yJ10_append (ws_ yJ10_append cJ10_append 2 (some (.object "java/lang/AbstractStringBuilder")))) := lw_app (fun w hw => by
  simp only [List.mem_cons, List.not_mem_nil, or_false] at hw
  rcases hw with e | e | e | e | e
  · rw [e]; exact q729
  · rw [e]; exact q1949
  · rw [e]; exact q724
  · rw [e]; exact q730
  · rw [e]; exact q93) (lw_meth q731)
theorem hs_J10_append : yJ10_append.name ≠ "<init>" ∧ (parseMethodDescriptor yJ10_append.desc).map (fun d => d.parameters.length) = some 1 := by decide +kernel
abbrev rm_J11_append (Lc Ls : Nat) : Room := { frames := 5, cells := Lc, slots := Ls, locals := 137 }
def F_J11_append (Lc Ls : Nat) (M : gM) (a0 : Nat) (x1 : Int32) (Q : Nat → gM → Prop)  : Prop :=
  ∃ c_3 s_4, (0 + c_3 ≤ Lc ∧ 0 + s_4 ≤ Ls) ∧
  rc M 16 a0 ∧ F_J10_append_J11 c_3 s_4 M a0 x1 fun a_2 M_1 =>
  Q a0 M_1
theorem met_J11_append {M : gM} {a0 : Nat} {x1 : Int32} {Q : Nat → gM → Prop} {Lc Ls : Nat} (hF : F_J11_append Lc Ls M a0 x1 Q) : gMt yJ11_append (ws_ yJ11_append cJ11_append 2 (some (.object "java/lang/StringBuilder"))) (rm_J11_append Lc Ls) M [.ref a0, .int x1] (gQa Q) := by
  refine gMet (bytes := cJ11_append) (maxL := 2) (ret := (some (.object "java/lang/StringBuilder"))) rfl rfl (by decide) (Nat.le_of_ble_eq_true rfl) (lv := [(0, .ref a0), (1, .int x1)]) rfl (fun G hC hin => ?_)
  have hu : 0 ≤ Lc ∧ 0 ≤ Ls := ⟨Nat.zero_le _, Nat.zero_le _⟩
  unfold F_J11_append at hF
  refine g_aload_n 1 hC dJ11_append_0 rfl 0 rfl rfl ?_
  refine g_iload_n 2 hC dJ11_append_1 rfl 1 rfl rfl ?_
  obtain ⟨c_3, s_4, hu, hF⟩ := hF
  refine g_cSU (rest := []) wl_J11_50 hs_J10_append (ci := 16) rfl 5 hC hF.1 (met_J10_append_J11 hF.2) rfl ⟨Nat.le_of_ble_eq_true rfl, Nat.le_of_ble_eq_true rfl⟩ hu rfl (Nat.le_of_ble_eq_true rfl) dJ11_append_2 rfl (g_ty_a (0 + c_3) (0 + s_4) (Nat.le_refl _) (Nat.le_refl _) (fun a_2 M_1 hF => ?_))
  refine g_pop 6 hC dJ11_append_5 rfl rfl ?_
  refine g_aload_n 7 hC dJ11_append_6 rfl 0 rfl rfl ?_
  exact g_areturn (v := some a0) hC (Or.inl ⟨_, rfl⟩) ⟨_, rfl, hF⟩ dJ11_append_7 hu.1 hu.2
abbrev rm_J10_getValue_J11 : Room := { frames := 0, cells := 0, slots := 0, locals := 0 }
def F_J10_getValue_J11  (M : gM) (a0 : Nat) (Q : Nat → gM → Prop)  : Prop :=
  gN M 16 a0 0 fun a_1 =>
  Q a_1 M
theorem met_J10_getValue_J11 {M : gM} {a0 : Nat} {Q : Nat → gM → Prop} (hF : F_J10_getValue_J11 M a0 Q) : gMt yJ10_getValue (ws_ yJ10_getValue cJ10_getValue 1 (some (.array .byte))) rm_J10_getValue_J11 M [.ref a0] (gQa Q) := by
  refine gMet (bytes := cJ10_getValue) (maxL := 1) (ret := (some (.array .byte))) rfl rfl (by decide) (Nat.le_of_ble_eq_true rfl) (lv := [(0, .ref a0)]) rfl (fun G hC hin => ?_)
  unfold F_J10_getValue_J11 at hF
  refine g_aload_n 1 hC dJ10_getValue_0 rfl 0 rfl rfl ?_
  refine gf_J10_15_16N 4 hC hF dJ10_getValue_1 rfl (fun a_1 hF => ?_)
  exact g_areturn (v := some a_1) hC (Or.inr ⟨_, rfl⟩) ⟨_, rfl, hF⟩ dJ10_getValue_4 (Nat.zero_le _) (Nat.zero_le _)
abbrev rm_J10_length_J11 : Room := { frames := 0, cells := 0, slots := 0, locals := 0 }
def F_J10_length_J11  (M : gM) (a0 : Nat) (Q : Int32 → gM → Prop)  : Prop :=
  gI M 16 a0 3 fun x_1 =>
  Q x_1 M
theorem met_J10_length_J11 {M : gM} {a0 : Nat} {Q : Int32 → gM → Prop} (hF : F_J10_length_J11 M a0 Q) : gMt yJ10_length (ws_ yJ10_length cJ10_length 1 (some .int)) rm_J10_length_J11 M [.ref a0] (gQi Q) := by
  refine gMet (bytes := cJ10_length) (maxL := 1) (ret := (some .int)) rfl rfl (by decide) (Nat.le_of_ble_eq_true rfl) (lv := [(0, .ref a0)]) rfl (fun G hC hin => ?_)
  unfold F_J10_length_J11 at hF
  refine g_aload_n 1 hC dJ10_length_0 rfl 0 rfl rfl ?_
  refine gf_J10_79_16I 4 hC hF dJ10_length_1 rfl (fun x_1 hF => ?_)
  exact g_ireturn hC ⟨_, rfl, hF⟩ dJ10_length_4 (Nat.zero_le _) (Nat.zero_le _)
theorem hd_J10_length : yJ10_length.cls = RJ10 ∧ yJ10_length.cls ≠ "java/lang/invoke/MethodHandle" ∧ yJ10_length.cls ≠ "java/lang/invoke/VarHandle" ∧ (parseMethodDescriptor yJ10_length.desc).map (fun d => d.parameters.length) = some 0 := by decide +kernel
theorem wl_J11_343 : GoodIn lw_all (va_wsSU RJ11 343 yJ10_length (ws_ yJ10_length cJ10_length 1 (some .int))) := lw_app (fun w hw => by
  simp only [List.mem_cons, List.not_mem_nil, or_false] at hw
  rcases hw with e | e | e | e | e
  · rw [e]; exact q836
  · rw [e]; exact q832
  · rw [e]; exact q724
  · rw [e]; exact q831
  · rw [e]; exact q93) (lw_meth q837)
theorem hs_J10_length : yJ10_length.name ≠ "<init>" ∧ (parseMethodDescriptor yJ10_length.desc).map (fun d => d.parameters.length) = some 0 := by decide +kernel
abbrev rm_J11_length : Room := { frames := 1, cells := 0, slots := 0, locals := 20 }
def F_J11_length  (M : gM) (a0 : Nat) (Q : Int32 → gM → Prop)  : Prop :=
  rc M 16 a0 ∧ F_J10_length_J11 M a0 fun x_2 M_1 =>
  Q x_2 M_1
theorem met_J11_length {M : gM} {a0 : Nat} {Q : Int32 → gM → Prop} (hF : F_J11_length M a0 Q) : gMt yJ11_length (ws_ yJ11_length cJ11_length 1 (some .int)) rm_J11_length M [.ref a0] (gQi Q) := by
  refine gMet (bytes := cJ11_length) (maxL := 1) (ret := (some .int)) rfl rfl (by decide) (Nat.le_of_ble_eq_true rfl) (lv := [(0, .ref a0)]) rfl (fun G hC hin => ?_)
  unfold F_J11_length at hF
  refine g_aload_n 1 hC dJ11_length_0 rfl 0 rfl rfl ?_
  refine g_cSU (rest := []) wl_J11_343 hs_J10_length (ci := 16) rfl 4 hC hF.1 (met_J10_length_J11 hF.2) rfl ⟨Nat.le_of_ble_eq_true rfl, Nat.le_of_ble_eq_true rfl⟩ ⟨Nat.zero_le _, Nat.zero_le _⟩ rfl (Nat.le_of_ble_eq_true rfl) dJ11_length_1 rfl (g_ty_i 0 0 (Nat.le_refl _) (Nat.le_refl _) (fun x_2 M_1 hF => ?_))
  exact g_ireturn hC ⟨_, rfl, hF⟩ dJ11_length_4 (Nat.zero_le _) (Nat.zero_le _)
abbrev rm_J15_checkLength : Room := { frames := 0, cells := 0, slots := 0, locals := 0 }
def F_J15_checkLength  (M : gM) (x0 : Int32) (x1 : Int32) (Q : gM → Prop)  : Prop :=
  ((x0 ≤ x1 →
    Q M) ∧
    (¬ x0 ≤ x1 →
    False))
theorem met_J15_checkLength {M : gM} {x0 : Int32} {x1 : Int32} {Q : gM → Prop} (hF : F_J15_checkLength M x0 x1 Q) : gMt yJ15_checkLength (ws_ yJ15_checkLength cJ15_checkLength 2 none) rm_J15_checkLength M [.int x0, .int x1] (gQv Q) := by
  refine gMet (bytes := cJ15_checkLength) (maxL := 2) (ret := none) rfl rfl (by decide) (Nat.le_of_ble_eq_true rfl) (lv := [(0, .int x0), (1, .int x1)]) rfl (fun G hC hin => ?_)
  unfold F_J15_checkLength at hF
  refine g_iload_n 1 hC dJ15_checkLength_0 rfl 1 rfl rfl ?_
  refine g_iload_n 2 hC dJ15_checkLength_1 rfl 0 rfl rfl ?_
  refine g_icmp_ge 5 37 hC dJ15_checkLength_2 (by decide) rfl (fun c => ?_) (fun c => ?_)
  · have hF := hF.1 c
    exact g_return hC ⟨rfl, hF⟩ dJ15_checkLength_37 (Nat.zero_le _) (Nat.zero_le _)
  · have hF := hF.2 c
    exact hF.elim -- new of an unlinked class
theorem hd_J15_checkLength : yJ15_checkLength.cls ≠ "java/lang/invoke/MethodHandle" ∧ yJ15_checkLength.cls ≠ "java/lang/invoke/VarHandle" ∧ (parseMethodDescriptor yJ15_checkLength.desc).map (fun d => d.parameters.length) = some 2 := by decide +kernel
theorem wl_J15_343 : GoodIn lw_all (va_wsS RJ15 343 yJ15_checkLength (ws_ yJ15_checkLength cJ15_checkLength 2 none)) := lw_S q845 q846 q98 q847
abbrev rm_J15_copyOfRangeByte (Lc Ls : Nat) : Room := { frames := 1, cells := Lc, slots := Ls, locals := 72 }
def F_J15_copyOfRangeByte (Lc Ls : Nat) (M : gM) (a0 : Nat) (x1 : Int32) (x2 : Int32) (Q : Nat → gM → Prop)  : Prop :=
  F_J15_checkLength M x1 x2 fun M_1 =>
  nA M_1 0 0 Lc Ls .byte (x2 - x1) (x2 - x1).toNatClampNeg fun a_3 M_4 =>
  aL M_4 a0 fun x_5 =>
  aCp M_4 a0 x1 a_3 (0 : Int32) (if (x2 - x1) < (x_5 - x1) then (x2 - x1) else (x_5 - x1)) fun M_6 =>
  Q a_3 M_6
theorem met_J15_copyOfRangeByte {M : gM} {a0 : Nat} {x1 : Int32} {x2 : Int32} {Q : Nat → gM → Prop} {Lc Ls : Nat} (hF : F_J15_copyOfRangeByte Lc Ls M a0 x1 x2 Q) : gMt yJ15_copyOfRangeByte (ws_ yJ15_copyOfRangeByte cJ15_copyOfRangeByte 5 (some (.array .byte))) (rm_J15_copyOfRangeByte Lc Ls) M [.ref a0, .int x1, .int x2] (gQa Q) := by
  refine gMet (bytes := cJ15_copyOfRangeByte) (maxL := 5) (ret := (some (.array .byte))) rfl rfl (by decide) (Nat.le_of_ble_eq_true rfl) (lv := [(0, .ref a0), (1, .int x1), (2, .int x2)]) rfl (fun G hC hin => ?_)
  have hu : 0 ≤ Lc ∧ 0 ≤ Ls := ⟨Nat.zero_le _, Nat.zero_le _⟩
  unfold F_J15_copyOfRangeByte at hF
  refine g_iload_n 1 hC dJ15_copyOfRangeByte_0 rfl 1 rfl rfl ?_
  refine g_iload_n 2 hC dJ15_copyOfRangeByte_1 rfl 2 rfl rfl ?_
  refine g_cS (rest := []) wl_J15_343 hd_J15_checkLength 5 hC (met_J15_checkLength hF) rfl ⟨Nat.le_of_ble_eq_true rfl, Nat.le_of_ble_eq_true rfl⟩ hu rfl (Nat.le_of_ble_eq_true rfl) dJ15_copyOfRangeByte_2 rfl (g_ty_v 0 0 (Nat.le_refl _) (Nat.le_refl _) (fun M_1 hF => ?_))
  refine g_iload_n 6 hC dJ15_copyOfRangeByte_5 rfl 2 rfl rfl ?_
  refine g_iload_n 7 hC dJ15_copyOfRangeByte_6 rfl 1 rfl rfl ?_
  refine g_isub 8 hC dJ15_copyOfRangeByte_7 rfl ?_
  refine g_istore_n 9 hC (lv' := [(3, .int _), (0, .ref _), (1, .int _), (2, .int _)]) dJ15_copyOfRangeByte_8 rfl rfl (by decide) rfl ?_
  refine g_iload_n 10 hC dJ15_copyOfRangeByte_9 rfl 0 rfl rfl ?_
  have hu := hF.2.1
  refine g_newa 12 hC (ty := .byte) rfl (by decide) (fun _ _ h => h) (by decide) (by decide) q254 hF dJ15_copyOfRangeByte_10 rfl (fun a_3 M_4 hF => ?_)
  refine g_astore 14 hC (lv' := [(4, .ref _), (3, .int _), (0, .ref _), (1, .int _), (2, .int _)]) dJ15_copyOfRangeByte_12 rfl (by decide) rfl ?_
  refine g_aload_n 15 hC dJ15_copyOfRangeByte_14 rfl 2 rfl rfl ?_
  refine g_iload_n 16 hC dJ15_copyOfRangeByte_15 rfl 3 rfl rfl ?_
  refine g_aload 18 hC dJ15_copyOfRangeByte_16 rfl 0 rfl ?_
  refine g_iconst 19 hC (0 : Int32) dJ15_copyOfRangeByte_18 (by decide) rfl ?_
  refine g_aload_n 20 hC dJ15_copyOfRangeByte_19 rfl 2 rfl rfl ?_
  refine g_alen 21 hC hF dJ15_copyOfRangeByte_20 rfl (fun x_5 hF => ?_)
  refine g_iload_n 22 hC dJ15_copyOfRangeByte_21 rfl 3 rfl rfl ?_
  refine g_isub 23 hC dJ15_copyOfRangeByte_22 rfl ?_
  refine g_iload_n 24 hC dJ15_copyOfRangeByte_23 rfl 1 rfl rfl ?_
  refine g_min 27 hC q756 (Nat.le_of_ble_eq_true rfl) (Nat.le_of_ble_eq_true rfl) hu dJ15_copyOfRangeByte_24 rfl ?_
  refine g_copyW 30 hC q759 hF (Nat.le_of_ble_eq_true rfl) (Nat.le_of_ble_eq_true rfl) dJ15_copyOfRangeByte_27 rfl (fun M_6 hF => ?_)
  refine g_aload 32 hC dJ15_copyOfRangeByte_30 rfl 0 rfl ?_
  exact g_areturn (v := some a_3) hC (Or.inr ⟨_, rfl⟩) ⟨_, rfl, hF⟩ dJ15_copyOfRangeByte_32 hu.1 hu.2
theorem hd_J15_copyOfRangeByte : yJ15_copyOfRangeByte.cls ≠ "java/lang/invoke/MethodHandle" ∧ yJ15_copyOfRangeByte.cls ≠ "java/lang/invoke/VarHandle" ∧ (parseMethodDescriptor yJ15_copyOfRangeByte.desc).map (fun d => d.parameters.length) = some 3 := by decide +kernel
theorem wl_J15_339 : GoodIn lw_all (va_wsS RJ15 339 yJ15_copyOfRangeByte (ws_ yJ15_copyOfRangeByte cJ15_copyOfRangeByte 5 (some (.array .byte)))) := lw_S q842 q843 q98 q844
abbrev rm_J15_copyOfRange (Lc Ls : Nat) : Room := { frames := 2, cells := Lc, slots := Ls, locals := 96 }
def F_J15_copyOfRange_b10 (Q : Nat → gM → Prop)  (Lc Ls : Nat)  (a0 : Nat) (x1 : Int32) (x2 : Int32)  (u v : Nat) (M : gM) : Prop :=
  ∃ c_3 s_4, (u + c_3 ≤ Lc ∧ v + s_4 ≤ Ls) ∧
  F_J15_copyOfRangeByte c_3 s_4 M a0 x1 x2 fun a_2 M_1 =>
  Q a_2 M_1
theorem w_J15_copyOfRange_b10 {G : gG} {Q : Nat → gM → Prop} {Lc Ls : Nat} (hC : gCx G cJ15_copyOfRange 3 RJ15 (some (.array .byte)) (gQa Q) (rm_J15_copyOfRange Lc Ls))  (a0 : Nat) (x1 : Int32) (x2 : Int32)   (u v : Nat) (hu : u ≤ Lc ∧ v ≤ Ls) (M : gM) (hF : F_J15_copyOfRange_b10 Q Lc Ls a0 x1 x2 u v M) : gAt G u v M [(0, .ref a0), (1, .int x1), (2, .int x2)] 10 [] := by
  unfold F_J15_copyOfRange_b10 at hF
  refine g_aload_n 11 hC dJ15_copyOfRange_10 rfl 0 rfl rfl ?_
  refine g_iload_n 12 hC dJ15_copyOfRange_11 rfl 1 rfl rfl ?_
  refine g_iload_n 13 hC dJ15_copyOfRange_12 rfl 2 rfl rfl ?_
  obtain ⟨c_3, s_4, hu, hF⟩ := hF
  refine g_cS (rest := []) wl_J15_339 hd_J15_copyOfRangeByte 16 hC (met_J15_copyOfRangeByte hF) rfl ⟨Nat.le_of_ble_eq_true rfl, Nat.le_of_ble_eq_true rfl⟩ hu rfl (Nat.le_of_ble_eq_true rfl) dJ15_copyOfRange_13 rfl (g_ty_a (u + c_3) (v + s_4) (Nat.le_refl _) (Nat.le_refl _) (fun a_2 M_1 hF => ?_))
  exact g_areturn (v := some a_2) hC (Or.inr ⟨_, rfl⟩) ⟨_, rfl, hF⟩ dJ15_copyOfRange_16 hu.1 hu.2
def F_J15_copyOfRange (Lc Ls : Nat) (M : gM) (a0 : Nat) (x1 : Int32) (x2 : Int32) (Q : Nat → gM → Prop)  : Prop :=
  ((¬ x1 = 0 →
    F_J15_copyOfRange_b10 Q Lc Ls a0 x1 x2 0 0 M) ∧
    (x1 = 0 →
    aL M a0 fun x_1 =>
    ((x2 = x_1 →
      nC M 0 0 Lc Ls .byte a0 fun n_4 a_3 M_2 =>
      cY M_2 a_3 "[B" ∧
      Q a_3 M_2) ∧
      (¬ x2 = x_1 →
      F_J15_copyOfRange_b10 Q Lc Ls a0 x1 x2 0 0 M))))
theorem met_J15_copyOfRange {M : gM} {a0 : Nat} {x1 : Int32} {x2 : Int32} {Q : Nat → gM → Prop} {Lc Ls : Nat} (hF : F_J15_copyOfRange Lc Ls M a0 x1 x2 Q) : gMt yJ15_copyOfRange (ws_ yJ15_copyOfRange cJ15_copyOfRange 3 (some (.array .byte))) (rm_J15_copyOfRange Lc Ls) M [.ref a0, .int x1, .int x2] (gQa Q) := by
  refine gMet (bytes := cJ15_copyOfRange) (maxL := 3) (ret := (some (.array .byte))) rfl rfl (by decide) (Nat.le_of_ble_eq_true rfl) (lv := [(0, .ref a0), (1, .int x1), (2, .int x2)]) rfl (fun G hC hin => ?_)
  have hu : 0 ≤ Lc ∧ 0 ≤ Ls := ⟨Nat.zero_le _, Nat.zero_le _⟩
  unfold F_J15_copyOfRange at hF
  refine g_iload_n 1 hC dJ15_copyOfRange_0 rfl 1 rfl rfl ?_
  refine g_if_ne 4 10 hC dJ15_copyOfRange_1 (by decide) rfl (fun c => ?_) (fun c => ?_)
  · have hF := hF.1 c
    exact w_J15_copyOfRange_b10 hC _ _ _ _ _ hu _ hF
  · have hF := hF.2 c
    refine g_iload_n 5 hC dJ15_copyOfRange_4 rfl 2 rfl rfl ?_
    refine g_aload_n 6 hC dJ15_copyOfRange_5 rfl 0 rfl rfl ?_
    refine g_alen 7 hC hF dJ15_copyOfRange_6 rfl (fun x_1 hF => ?_)
    refine g_icmp_eq 10 17 hC dJ15_copyOfRange_7 (by decide) rfl (fun c => ?_) (fun c => ?_)
    · have hF := hF.1 c
      refine g_aload_n 18 hC dJ15_copyOfRange_17 rfl 0 rfl rfl ?_
      refine g_clone (ty := .byte) (ad := "[B") 21 hC (by decide +kernel) q754 q478 q481 q482 hF (Nat.le_of_ble_eq_true rfl) (Nat.le_of_ble_eq_true rfl) dJ15_copyOfRange_18 rfl (fun n_4 a_3 M_2 hu hF => ?_)
      refine g_cast 24 hC q755 hF.1 dJ15_copyOfRange_21 rfl ?_
      have hF := hF.2
      exact g_areturn (v := some a_3) hC (Or.inr ⟨_, rfl⟩) ⟨_, rfl, hF⟩ dJ15_copyOfRange_24 hu.1 hu.2
    · have hF := hF.2 c
      exact w_J15_copyOfRange_b10 hC _ _ _ _ _ hu _ hF
theorem hd_J15_copyOfRange : yJ15_copyOfRange.cls ≠ "java/lang/invoke/MethodHandle" ∧ yJ15_copyOfRange.cls ≠ "java/lang/invoke/VarHandle" ∧ (parseMethodDescriptor yJ15_copyOfRange.desc).map (fun d => d.parameters.length) = some 3 := by decide +kernel
theorem wl_J4_54 : GoodIn lw_all (va_wsS RJ4 54 yJ15_copyOfRange (ws_ yJ15_copyOfRange cJ15_copyOfRange 3 (some (.array .byte)))) := lw_S q839 q840 q98 q841
theorem hd_J10_getValue : yJ10_getValue.cls = RJ10 ∧ yJ10_getValue.cls ≠ "java/lang/invoke/MethodHandle" ∧ yJ10_getValue.cls ≠ "java/lang/invoke/VarHandle" ∧ (parseMethodDescriptor yJ10_getValue.desc).map (fun d => d.parameters.length) = some 0 := by decide +kernel
theorem wl_J4_552_J11 : GoodIn lw_all (va_wsU RJ4 552 RJ11 RJ10 yJ10_getValue yJ10_getValue (ws_ yJ10_getValue cJ10_getValue 1 (some (.array .byte)))) := lw_app (fun w hw => by
  simp only [List.mem_cons, List.not_mem_nil, or_false] at hw
  rcases hw with e | e | e | e | e
  · rw [e]; exact q825
  · rw [e]; exact q827
  · rw [e]; exact q828
  · rw [e]; exact q826
  · rw [e]; exact q93) (lw_meth q829)
theorem hd_J11_length : yJ11_length.cls = RJ11 ∧ yJ11_length.cls ≠ "java/lang/invoke/MethodHandle" ∧ yJ11_length.cls ≠ "java/lang/invoke/VarHandle" ∧ (parseMethodDescriptor yJ11_length.desc).map (fun d => d.parameters.length) = some 0 := by decide +kernel
theorem wo_J4_549_J11 : GoodIn lw_all (va_wsO RJ4 549 RJ11 "java/lang/AbstractStringBuilder" ⟨"java/lang/AbstractStringBuilder", "length", "()I"⟩ yJ11_length (ws_ yJ11_length cJ11_length 1 (some .int))) := lw_app (fun w hw => by
  simp only [List.mem_cons, List.not_mem_nil, or_false] at hw
  rcases hw with e | e | e | e | e | e
  · rw [e]; exact q830
  · rw [e]; exact q832
  · rw [e]; exact q831
  · rw [e]; exact q833
  · rw [e]; exact q834
  · rw [e]; exact q94) (lw_meth q835)
theorem wo_J4_549_J11h : "java/lang/AbstractStringBuilder" ≠ "java/lang/invoke/MethodHandle" ∧ "java/lang/AbstractStringBuilder" ≠ "java/lang/invoke/VarHandle" ∧ (parseMethodDescriptor "()I").map (fun d => d.parameters.length) = some 0 := by decide +kernel
theorem wl_J4_1047_J11 : GoodIn lw_all (va_wsU RJ4 1047 RJ11 RJ10 yJ10_isLatin1 yJ10_isLatin1 (ws_ yJ10_isLatin1 cJ10_isLatin1 1 (some .boolean))) := lw_app (fun w hw => by
  simp only [List.mem_cons, List.not_mem_nil, or_false] at hw
  rcases hw with e | e | e | e | e
  · rw [e]; exact q838
  · rw [e]; exact q762
  · rw [e]; exact q763
  · rw [e]; exact q761
  · rw [e]; exact q93) (lw_meth q764)
abbrev rm_J4_init_2 (Lc Ls : Nat) : Room := { frames := 3, cells := Lc, slots := Ls, locals := 118 }
def F_J4_init_2_b79 (Q : gM → Prop)  (Lc Ls : Nat)  (a0 : Nat) (a3 : Nat) (x4 : Int32)  (u v : Nat) (M : gM) : Prop :=
  pI M 15 a0 1 (1 : Int32) fun M_1 =>
  ∃ c_4 s_5, (u + c_4 ≤ Lc ∧ v + s_5 ≤ Ls) ∧
  F_J15_copyOfRange c_4 s_5 M_1 a3 (0 : Int32) (x4 <<< ((1 : Int32) &&& 31)) fun a_3 M_2 =>
  pR M_2 15 a0 0 (some a_3) fun M_6 =>
  Q M_6
theorem w_J4_init_2_b79 {G : gG} {Q : gM → Prop} {Lc Ls : Nat} (hC : gCx G cJ4_init_2 5 RJ4 none (gQv Q) (rm_J4_init_2 Lc Ls)) (hin : G.2.2.1.2.2.2.2.1.name = "<init>")  (a0 : Nat) (a3 : Nat) (x4 : Int32)   (u v : Nat) (hu : u ≤ Lc ∧ v ≤ Ls) (M : gM) (hF : F_J4_init_2_b79 Q Lc Ls a0 a3 x4 u v M) : gAt G u v M [(0, .ref a0), (3, .ref a3), (4, .int x4)] 79 [] := by
  unfold F_J4_init_2_b79 at hF
  refine g_aload_n 80 hC dJ4_init_2_79 rfl 0 rfl rfl ?_
  refine g_iconst 81 hC (1 : Int32) dJ4_init_2_80 (by decide) rfl ?_
  refine g_putFI (C := RJ4) (T := TJ4) (N := 4) (ci := 15) (k := 1) (ty := .byte) in_J4 tyJ4 tyJ4_ok nmJ4 rfl (by decide) q863 rfl rfl rfl (fun _ _ _ => rfl) rfl rfl 84 hC hin hF dJ4_init_2_81 rfl (fun M_1 hF => ?_)
  refine g_aload_n 85 hC dJ4_init_2_84 rfl 0 rfl rfl ?_
  refine g_aload_n 86 hC dJ4_init_2_85 rfl 1 rfl rfl ?_
  refine g_iconst 87 hC (0 : Int32) dJ4_init_2_86 (by decide) rfl ?_
  refine g_iload 89 hC dJ4_init_2_87 rfl 2 rfl ?_
  refine g_iconst 90 hC (1 : Int32) dJ4_init_2_89 (by decide) rfl ?_
  refine g_ishl 91 hC dJ4_init_2_90 rfl ?_
  obtain ⟨c_4, s_5, hu, hF⟩ := hF
  refine g_cS (rest := [_]) wl_J4_54 hd_J15_copyOfRange 94 hC (met_J15_copyOfRange hF) rfl ⟨Nat.le_of_ble_eq_true rfl, Nat.le_of_ble_eq_true rfl⟩ hu rfl (Nat.le_of_ble_eq_true rfl) dJ4_init_2_91 rfl (g_ty_a (u + c_4) (v + s_5) (Nat.le_refl _) (Nat.le_refl _) (fun a_3 M_2 hF => ?_))
  refine g_putFR (C := RJ4) (T := TJ4) (N := 4) (ci := 15) (k := 0) (ty := (.array .byte)) in_J4 tyJ4 tyJ4_ok nmJ4 rfl (by decide) q862 rfl rfl rfl (fun _ _ _ => rfl) (g_narR _ _ (by decide)) (g_fitR _ _ (by decide)) 97 hC hin hF dJ4_init_2_94 rfl (fun M_6 hF => ?_)
  exact g_return hC ⟨rfl, hF⟩ dJ4_init_2_97 hu.1 hu.2
def F_J4_init_2 (Lc Ls : Nat) (M : gM) (a0 : Nat) (a1 : Nat) (r2 : Option Nat) (Q : gM → Prop)  : Prop :=
  rc M 16 a1 ∧ F_J10_getValue_J11 M a1 fun a_2 M_1 =>
  rc M_1 16 a1 ∧ F_J11_length M_1 a1 fun x_4 M_3 =>
  rc M_3 16 a1 ∧ F_J10_isLatin1_J11 M_3 a1 fun x_6 M_5 =>
  ((x_6 = 0 →
    (((1 : Int32) = 0 →
      F_J4_init_2_b79 Q Lc Ls a0 a_2 x_4 0 0 M_5) ∧
      (¬ (1 : Int32) = 0 →
      False))) ∧
    (¬ x_6 = 0 →
    pI M_5 15 a0 1 (0 : Int32) fun M_7 =>
    ∃ c_10 s_11, (0 + c_10 ≤ Lc ∧ 0 + s_11 ≤ Ls) ∧
    F_J15_copyOfRange c_10 s_11 M_7 a_2 (0 : Int32) x_4 fun a_9 M_8 =>
    pR M_8 15 a0 0 (some a_9) fun M_12 =>
    Q M_12))
theorem met_J4_init_2 {M : gM} {a0 : Nat} {a1 : Nat} {r2 : Option Nat} {Q : gM → Prop} {Lc Ls : Nat} (hF : F_J4_init_2 Lc Ls M a0 a1 r2 Q) : gMt yJ4_init_2 (ws_ yJ4_init_2 cJ4_init_2 5 none) (rm_J4_init_2 Lc Ls) M [.ref a0, .ref a1, va_rf r2] (gQv Q) := by
  refine gMet (bytes := cJ4_init_2) (maxL := 5) (ret := none) rfl rfl (by decide) (by cases r2 <;> exact Nat.le_of_ble_eq_true rfl) (lv := [(0, .ref a0), (1, .ref a1), (2, va_rf r2)]) (by cases r2 <;> rfl) (fun G hC hin => ?_)
  have hu : 0 ≤ Lc ∧ 0 ≤ Ls := ⟨Nat.zero_le _, Nat.zero_le _⟩
  unfold F_J4_init_2 at hF
  refine g_aload_n 1 hC dJ4_init_2_0 rfl 0 rfl rfl ?_
  refine g_objInit 4 hC q824 q109 q110 (Nat.le_of_ble_eq_true rfl) (Nat.le_of_ble_eq_true rfl) dJ4_init_2_1 rfl ?_
  refine g_aload_n 5 hC dJ4_init_2_4 rfl 1 rfl rfl ?_
  refine g_cU (rest := []) wl_J4_552_J11 rfl hd_J10_getValue.2 (ci := 16) rfl 8 hC hF.1 (met_J10_getValue_J11 hF.2) rfl ⟨Nat.le_of_ble_eq_true rfl, Nat.le_of_ble_eq_true rfl⟩ hu rfl (Nat.le_of_ble_eq_true rfl) dJ4_init_2_5 rfl (g_ty_a 0 0 (Nat.le_refl _) (Nat.le_refl _) (fun a_2 M_1 hF => ?_))
  refine g_astore_n 9 hC (lv' := [(3, .ref a_2), (0, .ref a0), (1, .ref a1), (2, va_rf r2)]) dJ4_init_2_8 rfl rfl (by decide) (by cases r2 <;> rfl) ?_
  refine g_aload_n 10 hC dJ4_init_2_9 rfl 2 rfl rfl ?_
  refine g_cO (rest := []) (x := ⟨"java/lang/AbstractStringBuilder", "length", "()I"⟩) wo_J4_549_J11 q837 wo_J4_549_J11h (ci := 16) rfl 13 hC hF.1 (met_J11_length hF.2) rfl ⟨Nat.le_of_ble_eq_true rfl, Nat.le_of_ble_eq_true rfl⟩ hu rfl (Nat.le_of_ble_eq_true rfl) dJ4_init_2_10 rfl (g_ty_i 0 0 (Nat.le_refl _) (Nat.le_refl _) (fun x_4 M_3 hF => ?_))
  refine g_istore 15 hC (lv' := [(4, .int _), (3, .ref _), (0, .ref _), (1, .ref _), (2, va_rf _)]) dJ4_init_2_13 rfl (by decide) rfl ?_
  refine g_aload_n 16 hC dJ4_init_2_15 rfl 3 rfl rfl ?_
  refine g_cU (rest := []) wl_J4_1047_J11 rfl hd_J10_isLatin1.2 (ci := 16) rfl 19 hC hF.1 (met_J10_isLatin1_J11 hF.2) rfl ⟨Nat.le_of_ble_eq_true rfl, Nat.le_of_ble_eq_true rfl⟩ hu rfl (Nat.le_of_ble_eq_true rfl) dJ4_init_2_16 rfl (g_ty_i 0 0 (Nat.le_refl _) (Nat.le_refl _) (fun x_6 M_5 hF => ?_))
  refine g_if_eq 22 41 hC dJ4_init_2_19 (by decide) rfl (fun c => ?_) (fun c => ?_)
  · have hF := hF.1 c
    refine g_gets 44 hC sz_compact q848 dJ4_init_2_41 rfl ?_
    refine g_if_eq 47 79 hC dJ4_init_2_44 (by decide) rfl (fun c => ?_) (fun c => ?_)
    · have hF := hF.1 c
      refine g_sub [2, 1, 0] rfl ?_
      exact w_J4_init_2_b79 hC hin _ _ _ _ _ hu _ hF
    · have hF := hF.2 c
      refine g_aload_n 48 hC dJ4_init_2_47 rfl 3 rfl rfl ?_
      exact hF.elim -- field java/lang/AbstractStringBuilder.maybeLatin1 in java/lang/AbstractStringBuilder
  · have hF := hF.2 c
    refine g_aload_n 23 hC dJ4_init_2_22 rfl 2 rfl rfl ?_
    refine g_iconst 24 hC (0 : Int32) dJ4_init_2_23 (by decide) rfl ?_
    refine g_putFI (C := RJ4) (T := TJ4) (N := 4) (ci := 15) (k := 1) (ty := .byte) in_J4 tyJ4 tyJ4_ok nmJ4 rfl (by decide) q863 rfl rfl rfl (fun _ _ _ => rfl) rfl rfl 27 hC hin hF dJ4_init_2_24 rfl (fun M_7 hF => ?_)
    refine g_aload_n 28 hC dJ4_init_2_27 rfl 2 rfl rfl ?_
    refine g_aload_n 29 hC dJ4_init_2_28 rfl 1 rfl rfl ?_
    refine g_iconst 30 hC (0 : Int32) dJ4_init_2_29 (by decide) rfl ?_
    refine g_iload 32 hC dJ4_init_2_30 rfl 0 rfl ?_
    obtain ⟨c_10, s_11, hu, hF⟩ := hF
    refine g_cS (rest := [_]) wl_J4_54 hd_J15_copyOfRange 35 hC (met_J15_copyOfRange hF) rfl ⟨Nat.le_of_ble_eq_true rfl, Nat.le_of_ble_eq_true rfl⟩ hu rfl (Nat.le_of_ble_eq_true rfl) dJ4_init_2_32 rfl (g_ty_a (0 + c_10) (0 + s_11) (Nat.le_refl _) (Nat.le_refl _) (fun a_9 M_8 hF => ?_))
    refine g_putFR (C := RJ4) (T := TJ4) (N := 4) (ci := 15) (k := 0) (ty := (.array .byte)) in_J4 tyJ4 tyJ4_ok nmJ4 rfl (by decide) q862 rfl rfl rfl (fun _ _ _ => rfl) (g_narR _ _ (by decide)) (g_fitR _ _ (by decide)) 38 hC hin hF dJ4_init_2_35 rfl (fun M_12 hF => ?_)
    refine g_goto 97 hC dJ4_init_2_38 (by decide) ?_
    exact g_return hC ⟨rfl, hF⟩ dJ4_init_2_97 hu.1 hu.2
theorem hd_J4_init_2 : yJ4_init_2.cls ≠ "java/lang/invoke/MethodHandle" ∧ yJ4_init_2.cls ≠ "java/lang/invoke/VarHandle" ∧ (parseMethodDescriptor yJ4_init_2.desc).map (fun d => d.parameters.length) = some 2 := by decide +kernel
abbrev rm_J4_init (Lc Ls : Nat) : Room := { frames := 4, cells := Lc, slots := Ls, locals := 142 }
def F_J4_init (Lc Ls : Nat) (M : gM) (a0 : Nat) (a1 : Nat) (Q : gM → Prop)  : Prop :=
  ∃ c_3 s_4, (0 + c_3 ≤ Lc ∧ 0 + s_4 ≤ Ls) ∧
  F_J4_init_2 c_3 s_4 M a0 a1 none fun M_1 =>
  Q M_1
theorem met_J4_init {M : gM} {a0 : Nat} {a1 : Nat} {Q : gM → Prop} {Lc Ls : Nat} (hF : F_J4_init Lc Ls M a0 a1 Q) : gMt yJ4_init (ws_ yJ4_init cJ4_init 2 none) (rm_J4_init Lc Ls) M [.ref a0, .ref a1] (gQv Q) := by
  refine gMet (bytes := cJ4_init) (maxL := 2) (ret := none) rfl rfl (by decide) (Nat.le_of_ble_eq_true rfl) (lv := [(0, .ref a0), (1, .ref a1)]) rfl (fun G hC hin => ?_)
  have hu : 0 ≤ Lc ∧ 0 ≤ Ls := ⟨Nat.zero_le _, Nat.zero_le _⟩
  unfold F_J4_init at hF
  refine g_aload_n 1 hC dJ4_init_0 rfl 0 rfl rfl ?_
  refine g_aload_n 2 hC dJ4_init_1 rfl 1 rfl rfl ?_
  refine g_null 3 hC dJ4_init_2 rfl ?_
  obtain ⟨c_3, s_4, hu, hF⟩ := hF
  refine g_cI (rest := []) q823 q77 q821 q822 rfl hd_J4_init_2 6 hC (met_J4_init_2 hF) rfl ⟨Nat.le_of_ble_eq_true rfl, Nat.le_of_ble_eq_true rfl⟩ hu rfl (Nat.le_of_ble_eq_true rfl) dJ4_init_3 rfl (g_ty_v (0 + c_3) (0 + s_4) (Nat.le_refl _) (Nat.le_refl _) (fun M_1 hF => ?_))
  exact g_return hC ⟨rfl, hF⟩ dJ4_init_6 hu.1 hu.2
theorem hd_J4_init : yJ4_init.cls ≠ "java/lang/invoke/MethodHandle" ∧ yJ4_init.cls ≠ "java/lang/invoke/VarHandle" ∧ (parseMethodDescriptor yJ4_init.desc).map (fun d => d.parameters.length) = some 1 := by decide +kernel
abbrev rm_J11_toString (Lc Ls : Nat) : Room := { frames := 5, cells := Lc, slots := Ls, locals := 163 }
def F_J11_toString (Lc Ls : Nat) (M : gM) (a0 : Nat) (Q : Nat → gM → Prop)  : Prop :=
  nO M 0 0 Lc Ls 15 4 fun a_1 M_2 =>
  ∃ c_5 s_6, ((0 + 1) + c_5 ≤ Lc ∧ (0 + 4) + s_6 ≤ Ls) ∧
  F_J4_init c_5 s_6 M_2 a_1 a0 fun M_3 =>
  Q a_1 M_3
theorem met_J11_toString {M : gM} {a0 : Nat} {Q : Nat → gM → Prop} {Lc Ls : Nat} (hF : F_J11_toString Lc Ls M a0 Q) : gMt yJ11_toString (ws_ yJ11_toString cJ11_toString 1 (some (.object "java/lang/String"))) (rm_J11_toString Lc Ls) M [.ref a0] (gQa Q) := by
  refine gMet (bytes := cJ11_toString) (maxL := 1) (ret := (some (.object "java/lang/String"))) rfl rfl (by decide) (Nat.le_of_ble_eq_true rfl) (lv := [(0, .ref a0)]) rfl (fun G hC hin => ?_)
  have hu : 0 ≤ Lc ∧ 0 ≤ Ls := ⟨Nat.zero_le _, Nat.zero_le _⟩
  unfold F_J11_toString at hF
  have hu := hF.1
  refine g_new (C := RJ4) (T := TJ4) (N := 4) (ci := 15) in_J4 tyJ4_ok (by decide) rfl q817 q253 q77 3 hC hF dJ11_toString_0 rfl (fun a_1 M_2 hF => ?_)
  refine g_dup 4 hC dJ11_toString_3 rfl rfl ?_
  refine g_aload_n 5 hC dJ11_toString_4 rfl 0 rfl rfl ?_
  obtain ⟨c_5, s_6, hu, hF⟩ := hF
  refine g_cI (rest := [_]) q820 q77 q818 q819 rfl hd_J4_init 8 hC (met_J4_init hF) rfl ⟨Nat.le_of_ble_eq_true rfl, Nat.le_of_ble_eq_true rfl⟩ hu rfl (Nat.le_of_ble_eq_true rfl) dJ11_toString_5 rfl (g_ty_v ((0 + 1) + c_5) ((0 + 4) + s_6) (Nat.le_refl _) (Nat.le_refl _) (fun M_3 hF => ?_))
  exact g_areturn (v := some a_1) hC (Or.inl ⟨_, rfl⟩) ⟨_, rfl, hF⟩ dJ11_toString_8 hu.1 hu.2
abbrev rm_J16_equals : Room := { frames := 0, cells := 0, slots := 0, locals := 0 }
def F_J16_equals_b9 (Q : Int32 → gM → Prop)    (a0 : Nat) (a1 : Nat) : Nat → Int32 → gM → Prop
  | 0, _, _ => False
  | n + 1, x2, M =>
    aL M a0 fun x_1 =>
    ((x_1 ≤ x2 →
      Q (1 : Int32) M) ∧
      (¬ x_1 ≤ x2 →
      aI M .byte a0 x2 fun x_2 =>
      aI M .byte a1 x2 fun x_3 =>
      ((x_2 = x_3 →
        (F_J16_equals_b9 Q a0 a1 n) (x2 + (1 : Int32)) M) ∧
        (¬ x_2 = x_3 →
        Q (0 : Int32) M))))
theorem w_J16_equals_b9 {G : gG} {Q : Int32 → gM → Prop} (hC : gCx G cJ16_equals 3 RJ16 (some .boolean) (gQi Q) rm_J16_equals)  (a0 : Nat) (a1 : Nat)  : ∀ (n : Nat) (x2 : Int32)   (M : gM), F_J16_equals_b9 Q a0 a1 n x2 M → gAt G 0 0 M [(0, .ref a0), (1, .ref a1), (2, .int x2)] 9 [] := by
  intro n
  induction n with
  | zero =>
    intro x2 M hF
    exact hF.elim
  | succ n ih =>
    intro x2 M hF
    have hK9 := ih
    unfold F_J16_equals_b9 at hF
    refine g_iload_n 10 hC dJ16_equals_9 rfl 2 rfl rfl ?_
    refine g_aload_n 11 hC dJ16_equals_10 rfl 0 rfl rfl ?_
    refine g_alen 12 hC hF dJ16_equals_11 rfl (fun x_1 hF => ?_)
    refine g_icmp_ge 15 32 hC dJ16_equals_12 (by decide) rfl (fun c => ?_) (fun c => ?_)
    · have hF := hF.1 c
      refine g_iconst 33 hC (1 : Int32) dJ16_equals_32 (by decide) rfl ?_
      exact g_zreturn hC ⟨_, rfl, hF⟩ (Or.inr rfl) dJ16_equals_33 (Nat.zero_le _) (Nat.zero_le _)
    · have hF := hF.2 c
      refine g_aload_n 16 hC dJ16_equals_15 rfl 0 rfl rfl ?_
      refine g_iload_n 17 hC dJ16_equals_16 rfl 2 rfl rfl ?_
      refine g_bald 18 hC hF dJ16_equals_17 rfl (fun x_2 hF => ?_)
      refine g_aload_n 19 hC dJ16_equals_18 rfl 1 rfl rfl ?_
      refine g_iload_n 20 hC dJ16_equals_19 rfl 2 rfl rfl ?_
      refine g_bald 21 hC hF dJ16_equals_20 rfl (fun x_3 hF => ?_)
      refine g_icmp_eq 24 26 hC dJ16_equals_21 (by decide) rfl (fun c => ?_) (fun c => ?_)
      · have hF := hF.1 c
        refine g_iinc 29 hC (x2 + (1 : Int32)) (lv' := [(2, .int _), (0, .ref _), (1, .ref _)]) dJ16_equals_26 rfl 2 rfl rfl (by decide) rfl ?_
        refine g_goto 9 hC dJ16_equals_29 (by decide) ?_
        refine g_sub [1, 2, 0] rfl ?_
        exact hK9 _ _ hF
      · have hF := hF.2 c
        refine g_iconst 25 hC (0 : Int32) dJ16_equals_24 (by decide) rfl ?_
        exact g_zreturn hC ⟨_, rfl, hF⟩ (Or.inl rfl) dJ16_equals_25 (Nat.zero_le _) (Nat.zero_le _)
def F_J16_equals  (M : gM) (a0 : Nat) (a1 : Nat) (Q : Int32 → gM → Prop)  : Prop :=
  aL M a0 fun x_1 =>
  aL M a1 fun x_2 =>
  ((¬ x_1 = x_2 →
    Q (0 : Int32) M) ∧
    (x_1 = x_2 →
    ∃ n_3, F_J16_equals_b9 Q a0 a1 n_3 (0 : Int32) M))
theorem met_J16_equals {M : gM} {a0 : Nat} {a1 : Nat} {Q : Int32 → gM → Prop} (hF : F_J16_equals M a0 a1 Q) : gMt yJ16_equals (ws_ yJ16_equals cJ16_equals 3 (some .boolean)) rm_J16_equals M [.ref a0, .ref a1] (gQi Q) := by
  refine gMet (bytes := cJ16_equals) (maxL := 3) (ret := (some .boolean)) rfl rfl (by decide) (Nat.le_of_ble_eq_true rfl) (lv := [(0, .ref a0), (1, .ref a1)]) rfl (fun G hC hin => ?_)
  unfold F_J16_equals at hF
  refine g_aload_n 1 hC dJ16_equals_0 rfl 0 rfl rfl ?_
  refine g_alen 2 hC hF dJ16_equals_1 rfl (fun x_1 hF => ?_)
  refine g_aload_n 3 hC dJ16_equals_2 rfl 1 rfl rfl ?_
  refine g_alen 4 hC hF dJ16_equals_3 rfl (fun x_2 hF => ?_)
  refine g_icmp_ne 7 34 hC dJ16_equals_4 (by decide) rfl (fun c => ?_) (fun c => ?_)
  · have hF := hF.1 c
    refine g_iconst 35 hC (0 : Int32) dJ16_equals_34 (by decide) rfl ?_
    exact g_zreturn hC ⟨_, rfl, hF⟩ (Or.inl rfl) dJ16_equals_35 (Nat.zero_le _) (Nat.zero_le _)
  · have hF := hF.2 c
    refine g_iconst 8 hC (0 : Int32) dJ16_equals_7 (by decide) rfl ?_
    refine g_istore_n 9 hC (lv' := [(2, .int _), (0, .ref _), (1, .ref _)]) dJ16_equals_8 rfl rfl (by decide) rfl ?_
    refine g_sub [1, 2, 0] rfl ?_
    obtain ⟨n_3, hF⟩ := hF
    exact w_J16_equals_b9 hC _ _ n_3 _ _ hF
theorem hd_J16_equals : yJ16_equals.cls ≠ "java/lang/invoke/MethodHandle" ∧ yJ16_equals.cls ≠ "java/lang/invoke/VarHandle" ∧ (parseMethodDescriptor yJ16_equals.desc).map (fun d => d.parameters.length) = some 2 := by decide +kernel
theorem wl_J4_541 : GoodIn lw_all (va_wsS RJ4 541 yJ16_equals (ws_ yJ16_equals cJ16_equals 3 (some .boolean))) := lw_S q904 q905 q99 q906
abbrev rm_J4_equals : Room := { frames := 1, cells := 0, slots := 0, locals := 22 }
def F_J4_equals_b36 (Q : Int32 → gM → Prop)    (a0 : Nat) (a2 : Nat)   (M : gM) : Prop :=
  gN M 15 a0 0 fun a_1 =>
  gN M 15 a2 0 fun a_2 =>
  F_J16_equals M a_1 a_2 fun x_4 M_3 =>
  ((x_4 = 0 →
    Q (0 : Int32) M_3) ∧
    (¬ x_4 = 0 →
    Q (1 : Int32) M_3))
theorem w_J4_equals_b36 {G : gG} {Q : Int32 → gM → Prop} (hC : gCx G cJ4_equals 3 RJ4 (some .boolean) (gQi Q) rm_J4_equals)  (a0 : Nat) (a2 : Nat)     (M : gM) (hF : F_J4_equals_b36 Q a0 a2 M) : gAt G 0 0 M [(0, .ref a0), (2, .ref a2)] 36 [] := by
  unfold F_J4_equals_b36 at hF
  refine g_aload_n 37 hC dJ4_equals_36 rfl 0 rfl rfl ?_
  refine gf_J4_9_15N 40 hC hF dJ4_equals_37 rfl (fun a_1 hF => ?_)
  refine g_aload_n 41 hC dJ4_equals_40 rfl 1 rfl rfl ?_
  refine gf_J4_9_15N 44 hC hF dJ4_equals_41 rfl (fun a_2 hF => ?_)
  refine g_cS (rest := []) wl_J4_541 hd_J16_equals 47 hC (met_J16_equals hF) rfl ⟨Nat.le_of_ble_eq_true rfl, Nat.le_of_ble_eq_true rfl⟩ ⟨Nat.zero_le _, Nat.zero_le _⟩ rfl (Nat.le_of_ble_eq_true rfl) dJ4_equals_44 rfl (g_ty_i 0 0 (Nat.le_refl _) (Nat.le_refl _) (fun x_4 M_3 hF => ?_))
  refine g_if_eq 50 54 hC dJ4_equals_47 (by decide) rfl (fun c => ?_) (fun c => ?_)
  · have hF := hF.1 c
    refine g_iconst 55 hC (0 : Int32) dJ4_equals_54 (by decide) rfl ?_
    exact g_zreturn hC ⟨_, rfl, hF⟩ (Or.inl rfl) dJ4_equals_55 (Nat.zero_le _) (Nat.zero_le _)
  · have hF := hF.2 c
    refine g_iconst 51 hC (1 : Int32) dJ4_equals_50 (by decide) rfl ?_
    refine g_goto 55 hC dJ4_equals_51 (by decide) ?_
    exact g_zreturn hC ⟨_, rfl, hF⟩ (Or.inr rfl) dJ4_equals_55 (Nat.zero_le _) (Nat.zero_le _)
def F_J4_equals  (M : gM) (a0 : Nat) (a1 : Nat) (Q : Int32 → gM → Prop)  : Prop :=
  ((¬ (some a0) = (some a1) →
    iO M a1 "java/lang/String" fun x_1 =>
    ((x_1 = 0 →
      Q (0 : Int32) M) ∧
      (¬ x_1 = 0 →
      cY M a1 "java/lang/String" ∧
      (((1 : Int32) = 0 →
        F_J4_equals_b36 Q a0 a1 M) ∧
        (¬ (1 : Int32) = 0 →
        gI M 15 a0 1 fun x_2 =>
        gI M 15 a1 1 fun x_3 =>
        ((¬ x_2 = x_3 →
          Q (0 : Int32) M) ∧
          (x_2 = x_3 →
          F_J4_equals_b36 Q a0 a1 M))))))) ∧
    ((some a0) = (some a1) →
    Q (1 : Int32) M))
theorem met_J4_equals {M : gM} {a0 : Nat} {a1 : Nat} {Q : Int32 → gM → Prop} (hF : F_J4_equals M a0 a1 Q) : gMt yJ4_equals (ws_ yJ4_equals cJ4_equals 3 (some .boolean)) rm_J4_equals M [.ref a0, .ref a1] (gQi Q) := by
  refine gMet (bytes := cJ4_equals) (maxL := 3) (ret := (some .boolean)) rfl rfl (by decide) (Nat.le_of_ble_eq_true rfl) (lv := [(0, .ref a0), (1, .ref a1)]) rfl (fun G hC hin => ?_)
  unfold F_J4_equals at hF
  refine g_aload_n 1 hC dJ4_equals_0 rfl 0 rfl rfl ?_
  refine g_aload_n 2 hC dJ4_equals_1 rfl 1 rfl rfl ?_
  refine g_acmp_ne 5 7 hC (x := (some a0)) (y := (some a1)) dJ4_equals_2 (by decide) rfl (fun c => ?_) (fun c => ?_)
  · have hF := hF.1 c
    refine g_aload_n 8 hC dJ4_equals_7 rfl 1 rfl rfl ?_
    refine g_inst 11 hC q903 hF dJ4_equals_8 rfl (fun x_1 hF => ?_)
    refine g_if_eq 14 54 hC dJ4_equals_11 (by decide) rfl (fun c => ?_) (fun c => ?_)
    · have hF := hF.1 c
      refine g_iconst 55 hC (0 : Int32) dJ4_equals_54 (by decide) rfl ?_
      exact g_zreturn hC ⟨_, rfl, hF⟩ (Or.inl rfl) dJ4_equals_55 (Nat.zero_le _) (Nat.zero_le _)
    · have hF := hF.2 c
      refine g_aload_n 15 hC dJ4_equals_14 rfl 1 rfl rfl ?_
      refine g_cast 18 hC q903 hF.1 dJ4_equals_15 rfl ?_
      have hF := hF.2
      refine g_astore_n 19 hC (lv' := [(2, .ref _), (0, .ref _), (1, .ref _)]) dJ4_equals_18 rfl rfl (by decide) rfl ?_
      refine g_gets 22 hC sz_compact q848 dJ4_equals_19 rfl ?_
      refine g_if_eq 25 36 hC dJ4_equals_22 (by decide) rfl (fun c => ?_) (fun c => ?_)
      · have hF := hF.1 c
        refine g_sub [1, 0] rfl ?_
        exact w_J4_equals_b36 hC _ _ _ hF
      · have hF := hF.2 c
        refine g_aload_n 26 hC dJ4_equals_25 rfl 1 rfl rfl ?_
        refine gf_J4_15_15I 29 hC hF dJ4_equals_26 rfl (fun x_2 hF => ?_)
        refine g_aload_n 30 hC dJ4_equals_29 rfl 0 rfl rfl ?_
        refine gf_J4_15_15I 33 hC hF dJ4_equals_30 rfl (fun x_3 hF => ?_)
        refine g_icmp_ne 36 54 hC dJ4_equals_33 (by decide) rfl (fun c => ?_) (fun c => ?_)
        · have hF := hF.1 c
          refine g_iconst 55 hC (0 : Int32) dJ4_equals_54 (by decide) rfl ?_
          exact g_zreturn hC ⟨_, rfl, hF⟩ (Or.inl rfl) dJ4_equals_55 (Nat.zero_le _) (Nat.zero_le _)
        · have hF := hF.2 c
          refine g_sub [1, 0] rfl ?_
          exact w_J4_equals_b36 hC _ _ _ hF
  · have hF := hF.2 c
    refine g_iconst 6 hC (1 : Int32) dJ4_equals_5 (by decide) rfl ?_
    exact g_zreturn hC ⟨_, rfl, hF⟩ (Or.inr rfl) dJ4_equals_6 (Nat.zero_le _) (Nat.zero_le _)